/-! the model's numbers: rows of 1100 digits -/
/-- FormHouseModel.move(II)V; cuts at [2] -/
def cd_217 : List mj_E := [(0, false, .iconst 0, 1, 0, 0, 0, jI 0, 0),
  (1, false, .istore_n 3, 1, 0, 0, 0, 0, 0),
  (2, true, .iload_n 3, 1, 0, 0, 0, 0, 0),
  (3, false, .sipush 1100, 3, 0, 0, 0, jI 1100, 0),
  (6, false, .if_icmp .ge 21, 3, 15, 0, 0, 0, 0),
  (9, false, .aload_n 0, 1, 0, 0, 0, 0, 0),
  (10, false, .iload_n 1, 1, 0, 0, 0, 0, 0),
  (11, false, .iload_n 3, 1, 0, 0, 0, 0, 0),
  (12, false, .aload_n 0, 1, 0, 0, 0, 0, 0),
  (13, false, .iload_n 2, 1, 0, 0, 0, 0, 0),
  (14, false, .iload_n 3, 1, 0, 0, 0, 0, 0),
  (15, false, .invokevirtual 254, 3, 216, 2, 17, 0, 0),
  (18, false, .invokevirtual 250, 3, 214, 3, 17, 0, 0),
  (21, false, .iinc 3 1, 3, 0, 0, 0, jI 1, 0),
  (24, false, .goto (-22), 3, 2, 0, 0, 0, 0),
  (27, false, .return_, 1, 0, 0, 0, 0, 0)]
def cx_217 : mj_X := (0, [], [])
theorem tb_217 : mj_tab (mj_mt 217) cx_217 cd_217 mj_mh [(0, 0, 0), (0, 0, 0), (0, 0, 0), (0, 0, 0), (0, 0, 0), (0, 0, 0), (0, 0, 0), (0, 0, 0), (0, 0, 0), (0, 0, 0), (0, 0, 0), (7071, 0, 0), (7062, 0, 0), (0, 0, 0), (0, 0, 0), (0, 0, 0)] = true := mj_tab_f (by decide +kernel)
theorem ct_217 (G : mj_G) {h : mj_H} (hm : isMd h) {t f : Nat} (ht : t < 15) (hf : f < 15) (hne : t ≠ f) : mj_Ct G (mj_mt 217) 0 0 [.ref 1412, .int (jI t), .int (jI f)] h (fun o h' => o = .returned none ∧ FrI [1439] h h' ∧ ∀ x, h'.1 1439 x = if 1100 * t ≤ x ∧ x < 1100 * t + 1100 then h.1 1439 (1100 * f + (x - 1100 * t)) else h.1 1439 x) := by
  refine mj_Ct_of mj_ok tb_217 rfl rfl (Nat.le_of_ble_eq_true rfl) (fun Run hR => ?_)
  have loop : ∀ (j k : Nat) (kI : Int32) (h' : mj_H), k + j = 1100 → FrI [1439] h h' → (∀ x, h'.1 1439 x = if 1100 * t ≤ x ∧ x < 1100 * t + k then h.1 1439 (1100 * f + (x - 1100 * t)) else h.1 1439 x) → kI = jI k → Run 2 [some (.ref 1412), some (.int (jI t)), some (.int (jI f)), some (.int kI)] [] h' (0, 0) := by
    intro j
    induction j with
    | zero =>
      rintro k kI h' hkj hfr hx rfl
      have hk : k = 1100 := by omega
      subst hk
      refine hR 30 2 _ _ _ _ _ _ rfl ?_
      refine ⟨fun c => ⟨rfl, hfr, hx⟩, fun c => ?_⟩
      simp (disch := omega) only [mj_lcm, jI_lt, jI_le, jI_eq, jL_lt, jL_le, jL_eq, jI_lt0, jI_0le, jI_0lt, jI_le0, jI_eq0, jL_eq0, jI_L, jI_add, jI_sub, jI_mul, jI_neg, jL_add, jL_sub, jL_mul, jL_neg, jL_I, jI_div, jI_mod, jL_div, jL_mod] at c
      omega
    | succ j ih =>
      rintro k kI h' hkj hfr hx rfl
      have m' := hm.fr hfr.1
      refine hR 30 2 _ _ _ _ _ _ rfl ?_
      refine ⟨fun c => ?_, fun c => ?_⟩
      · simp (disch := omega) only [mj_lcm, jI_lt, jI_le, jI_eq, jL_lt, jL_le, jL_eq, jI_lt0, jI_0le, jI_0lt, jI_le0, jI_eq0, jL_eq0, jI_L, jI_add, jI_sub, jI_mul, jI_neg, jL_add, jL_sub, jL_mul, jL_neg, jL_I, jI_div, jI_mod, jL_div, jL_mod] at c
        omega
      · refine ⟨m'.1, jcall (ct_216 G m' hf (by omega)) ⟨m'.1, jcallV (ct_214 G m' ht (by omega) _) ?_⟩⟩
        refine ih (k + 1) _ _ (by omega) (hfr.sI (by simp) _ _) ?_ (jI_add _ _)
        intro x
        by_cases hxk : x = 1100 * t + k
        · subst hxk
          rw [show (sI h' 1439 (1100 * t + k) (hI h' 1439 (1100 * f + k))).1 1439 (1100 * t + k) = hI h' 1439 (1100 * f + k) from sI_at _ _ _ _, if_pos (by omega)]
          show h'.1 1439 (1100 * f + k) = _
          rw [hx, if_neg (by omega), show 1100 * t + k - 1100 * t = k by omega]
        · rw [show (sI h' 1439 (1100 * t + k) (hI h' 1439 (1100 * f + k))).1 1439 x = h'.1 1439 x from sI_k _ _ hxk _, hx]
          by_cases g : 1100 * t ≤ x ∧ x < 1100 * t + k
          · rw [if_pos g, if_pos (by omega)]
          · rw [if_neg g, if_neg (by omega)]
  refine hR 30 0 _ _ _ _ _ _ rfl ?_
  exact loop 1100 0 _ h (by omega) (FrI.refl _ h) (fun x => by rw [if_neg (by omega)]) rfl
/-- FormHouseModel.copy(II)V; cuts at [2] -/
def cd_240 : List mj_E := [(0, false, .iconst 0, 1, 0, 0, 0, jI 0, 0),
  (1, false, .istore_n 3, 1, 0, 0, 0, 0, 0),
  (2, true, .iload_n 3, 1, 0, 0, 0, 0, 0),
  (3, false, .aload_n 0, 1, 0, 0, 0, 0, 0),
  (4, false, .getfield 313, 3, 17, 48, 0, 0, 0),
  (7, false, .if_icmp .ge 21, 3, 16, 0, 0, 0, 0),
  (10, false, .aload_n 0, 1, 0, 0, 0, 0, 0),
  (11, false, .iload_n 1, 1, 0, 0, 0, 0, 0),
  (12, false, .iload_n 3, 1, 0, 0, 0, 0, 0),
  (13, false, .aload_n 0, 1, 0, 0, 0, 0, 0),
  (14, false, .iload_n 2, 1, 0, 0, 0, 0, 0),
  (15, false, .iload_n 3, 1, 0, 0, 0, 0, 0),
  (16, false, .invokevirtual 316, 3, 237, 2, 17, 0, 0),
  (19, false, .invokevirtual 319, 3, 234, 3, 17, 0, 0),
  (22, false, .iinc 3 1, 3, 0, 0, 0, jI 1, 0),
  (25, false, .goto (-23), 3, 2, 0, 0, 0, 0),
  (28, false, .return_, 1, 0, 0, 0, 0, 0)]
def cx_240 : mj_X := (0, [], [])
theorem tb_240 : mj_tab (mj_mt 240) cx_240 cd_240 mj_mh [(0, 0, 0), (0, 0, 0), (0, 0, 0), (0, 0, 0), (7147, 0, 0), (0, 0, 0), (0, 0, 0), (0, 0, 0), (0, 0, 0), (0, 0, 0), (0, 0, 0), (0, 0, 0), (8096, 0, 0), (8084, 0, 0), (0, 0, 0), (0, 0, 0), (0, 0, 0)] = true := mj_tab_f (by decide +kernel)
theorem ct_240 (G : mj_G) {h : mj_H} (hm : isMd h) {t f n : Nat} (ht : t < 5) (hf : f < 5) (hne : t ≠ f) (hn : n ≤ 2200) (hd : hI h 1412 48 = jI n) : mj_Ct G (mj_mt 240) 0 0 [.ref 1412, .int (jI t), .int (jI f)] h (fun o h' => o = .returned none ∧ FrI [1440] h h' ∧ ∀ x, h'.1 1440 x = if 2200 * t ≤ x ∧ x < 2200 * t + n then h.1 1440 (2200 * f + (x - 2200 * t)) else h.1 1440 x) := by
  refine mj_Ct_of mj_ok tb_240 rfl rfl (Nat.le_of_ble_eq_true rfl) (fun Run hR => ?_)
  have loop : ∀ (j k : Nat) (kI : Int32) (h' : mj_H), k + j = n → FrI [1440] h h' → (∀ x, h'.1 1440 x = if 2200 * t ≤ x ∧ x < 2200 * t + k then h.1 1440 (2200 * f + (x - 2200 * t)) else h.1 1440 x) → kI = jI k → Run 2 [some (.ref 1412), some (.int (jI t)), some (.int (jI f)), some (.int kI)] [] h' (0, 0) := by
    intro j
    induction j with
    | zero =>
      rintro k kI h' hkj hfr hx rfl
      have hk : k = n := by omega
      subst hk
      have m' := hm.fr hfr.1
      have hd' : hI h' 1412 48 = jI k := by
        show h'.1 1412 48 = _
        rw [hfr.2 1412 (by decide)]; exact hd
      refine hR 30 2 _ _ _ _ _ _ rfl ?_
      refine ⟨m'.1, ?_⟩
      rw [hd']
      refine ⟨fun c => ⟨rfl, hfr, hx⟩, fun c => ?_⟩
      simp (disch := omega) only [mj_lcm, jI_lt, jI_le, jI_eq, jL_lt, jL_le, jL_eq, jI_lt0, jI_0le, jI_0lt, jI_le0, jI_eq0, jL_eq0, jI_L, jI_add, jI_sub, jI_mul, jI_neg, jL_add, jL_sub, jL_mul, jL_neg, jL_I, jI_div, jI_mod, jL_div, jL_mod] at c
      omega
    | succ j ih =>
      rintro k kI h' hkj hfr hx rfl
      have m' := hm.fr hfr.1
      have hd' : hI h' 1412 48 = jI n := by
        show h'.1 1412 48 = _
        rw [hfr.2 1412 (by decide)]; exact hd
      refine hR 30 2 _ _ _ _ _ _ rfl ?_
      refine ⟨m'.1, ?_⟩
      rw [hd']
      refine ⟨fun c => ?_, fun c => ?_⟩
      · simp (disch := omega) only [mj_lcm, jI_lt, jI_le, jI_eq, jL_lt, jL_le, jL_eq, jI_lt0, jI_0le, jI_0lt, jI_le0, jI_eq0, jL_eq0, jI_L, jI_add, jI_sub, jI_mul, jI_neg, jL_add, jL_sub, jL_mul, jL_neg, jL_I, jI_div, jI_mod, jL_div, jL_mod] at c
        omega
      · refine ⟨m'.1, jcall (ct_237 G m' hf (by omega)) ⟨m'.1, jcallV (ct_234 G m' ht (by omega) _) ?_⟩⟩
        refine ih (k + 1) _ _ (by omega) (hfr.sI (by simp) _ _) ?_ (jI_add _ _)
        intro x
        by_cases hxk : x = 2200 * t + k
        · subst hxk
          rw [show (sI h' 1440 (2200 * t + k) (hI h' 1440 (2200 * f + k))).1 1440 (2200 * t + k) = hI h' 1440 (2200 * f + k) from sI_at _ _ _ _, if_pos (by omega)]
          show h'.1 1440 (2200 * f + k) = _
          rw [hx, if_neg (by omega), show 2200 * t + k - 2200 * t = k by omega]
        · rw [show (sI h' 1440 (2200 * t + k) (hI h' 1440 (2200 * f + k))).1 1440 x = h'.1 1440 x from sI_k _ _ hxk _, hx]
          by_cases g : 2200 * t ≤ x ∧ x < 2200 * t + k
          · rw [if_pos g, if_pos (by omega)]
          · rw [if_neg g, if_neg (by omega)]
  refine hR 30 0 _ _ _ _ _ _ rfl ?_
  exact loop n 0 _ h (by omega) (FrI.refl _ h) (fun x => by rw [if_neg (by omega)]) rfl
