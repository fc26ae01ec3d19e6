/-- FormHouseModel.isLess(I)Z; cuts at [] -/
def cd_222 : List mj_E := [(0, false, .aload_n 0, 1, 0, 0, 0, 0, 0),
  (1, false, .iload_n 1, 1, 0, 0, 0, 0, 0),
  (2, false, .sipush 1099, 3, 0, 0, 0, jI 1099, 0),
  (5, false, .invokevirtual 254, 3, 216, 2, 17, 0, 0),
  (8, false, .sipush 32767, 3, 0, 0, 0, jI 32767, 0),
  (11, false, .if_icmp .le 7, 3, 8, 0, 0, 0, 0),
  (14, false, .iconst 1, 1, 0, 0, 0, jI 1, 0),
  (15, false, .goto 4, 3, 9, 0, 0, 0, 0),
  (18, false, .iconst 0, 1, 0, 0, 0, jI 0, 0),
  (19, false, .ireturn, 1, 0, 0, 0, 0, 0)]
def cx_222 : mj_X := (4, [], [])
theorem tb_222 : mj_tab (mj_mt 222) cx_222 cd_222 mj_mh [(0, 0, 0), (0, 0, 0), (0, 0, 0), (7071, 0, 0), (0, 0, 0), (0, 0, 0), (0, 0, 0), (0, 0, 0), (0, 0, 0), (0, 0, 0)] = true := mj_tab_f (by decide +kernel)
theorem ct_222 (G : mj_G) {h : mj_H} (hm : isMd h) {i : Nat} (hi : i < 15) {d : Int} (hv : h.1 1439 (1100 * i + 1099) = jI d) (h0 : 0 ≤ d) (h1 : d < 65536) : mj_Ct G (mj_mt 222) 0 0 [.ref 1412, .int (jI i)] h (jR (.int (jI (if 32767 < d then 1 else 0))) h) := by
  refine mj_Ct_of mj_ok tb_222 rfl rfl (Nat.le_of_ble_eq_true rfl) (fun Run hR => ?_)
  refine hR 30 0 _ _ _ _ _ _ rfl ?_
  have c := ct_216 G hm hi (k := 1099) (by omega)
  rw [show hI h 1439 (1100 * i + 1099) = jI d from hv] at c
  refine ⟨hm.1, jcall c ?_⟩
  refine ⟨fun c1 => ⟨Or.inl rfl, ?_⟩, fun c1 => ⟨Or.inr rfl, ?_⟩⟩
  · simp (disch := omega) only [mj_lcm, jI_lt, jI_le, jI_eq, jL_lt, jL_le, jL_eq, jI_lt0, jI_0le, jI_0lt, jI_le0, jI_eq0, jL_eq0, jI_L, jI_add, jI_sub, jI_mul, jI_neg, jL_add, jL_sub, jL_mul, jL_neg, jL_I, jI_div, jI_mod, jL_div, jL_mod] at c1
    rw [if_neg (by omega)]
    exact jRe rfl
  · simp (disch := omega) only [mj_lcm, jI_lt, jI_le, jI_eq, jL_lt, jL_le, jL_eq, jI_lt0, jI_0le, jI_0lt, jI_le0, jI_eq0, jL_eq0, jI_L, jI_add, jI_sub, jI_mul, jI_neg, jL_add, jL_sub, jL_mul, jL_neg, jL_I, jI_div, jI_mod, jL_div, jL_mod] at c1
    rw [if_pos (by omega)]
    exact jRe rfl
/-- FormHouseModel.length(I)I; cuts at [4] -/
def cd_219 : List mj_E := [(0, false, .sipush 1100, 3, 0, 0, 0, jI 1100, 0),
  (3, false, .istore_n 2, 1, 0, 0, 0, 0, 0),
  (4, true, .iload_n 2, 1, 0, 0, 0, 0, 0),
  (5, false, .ifCond .le 20, 3, 13, 0, 0, 0, 0),
  (8, false, .aload_n 0, 1, 0, 0, 0, 0, 0),
  (9, false, .iload_n 1, 1, 0, 0, 0, 0, 0),
  (10, false, .iload_n 2, 1, 0, 0, 0, 0, 0),
  (11, false, .iconst 1, 1, 0, 0, 0, jI 1, 0),
  (12, false, .isub, 1, 0, 0, 0, 0, 0),
  (13, false, .invokevirtual 254, 3, 216, 2, 17, 0, 0),
  (16, false, .ifCond .ne 9, 3, 13, 0, 0, 0, 0),
  (19, false, .iinc 2 (-1), 3, 0, 0, 0, jI (-1), 0),
  (22, false, .goto (-18), 3, 2, 0, 0, 0, 0),
  (25, false, .iload_n 2, 1, 0, 0, 0, 0, 0),
  (26, false, .ireturn, 1, 0, 0, 0, 0, 0)]
def cx_219 : mj_X := (1, [], [])
theorem tb_219 : mj_tab (mj_mt 219) cx_219 cd_219 mj_mh [(0, 0, 0), (0, 0, 0), (0, 0, 0), (0, 0, 0), (0, 0, 0), (0, 0, 0), (0, 0, 0), (0, 0, 0), (0, 0, 0), (7071, 0, 0), (0, 0, 0), (0, 0, 0), (0, 0, 0), (0, 0, 0), (0, 0, 0)] = true := mj_tab_f (by decide +kernel)
theorem ct_219 (G : mj_G) {h : mj_H} (hm : isMd h) {i : Nat} (hi : i < 15) : mj_Ct G (mj_mt 219) 0 0 [.ref 1412, .int (jI i)] h (fun o h' => h' = h ∧ ∃ n : Nat, o = .returned (some (.int (jI n))) ∧ n ≤ 1100 ∧ (∀ j, n ≤ j → j < 1100 → h.1 1439 (1100 * i + j) = 0) ∧ (n = 0 ∨ h.1 1439 (1100 * i + (n - 1)) ≠ 0)) := by
  refine mj_Ct_of mj_ok tb_219 rfl rfl (Nat.le_of_ble_eq_true rfl) (fun Run hR => ?_)
  have loop : ∀ (n : Nat) (nI : Int32), n ≤ 1100 → (∀ j, n ≤ j → j < 1100 → h.1 1439 (1100 * i + j) = 0) → nI = jI n → Run 4 [some (.ref 1412), some (.int (jI i)), some (.int nI)] [] h (0, 0) := by
    intro n
    induction n with
    | zero =>
      rintro nI hn hz rfl
      refine hR 30 2 _ _ _ _ _ _ rfl ?_
      refine ⟨fun c => ⟨rfl, 0, rfl, hn, hz, Or.inl rfl⟩, fun c => ?_⟩
      simp (disch := omega) only [mj_lcm, jI_lt, jI_le, jI_eq, jL_lt, jL_le, jL_eq, jI_lt0, jI_0le, jI_0lt, jI_le0, jI_eq0, jL_eq0, jI_L, jI_add, jI_sub, jI_mul, jI_neg, jL_add, jL_sub, jL_mul, jL_neg, jL_I, jI_div, jI_mod, jL_div, jL_mod] at c
      omega
    | succ n ih =>
      rintro nI hn hz rfl
      refine hR 30 2 _ _ _ _ _ _ rfl ?_
      refine ⟨fun c => ?_, fun c => ?_⟩
      · simp (disch := omega) only [mj_lcm, jI_lt, jI_le, jI_eq, jL_lt, jL_le, jL_eq, jI_lt0, jI_0le, jI_0lt, jI_le0, jI_eq0, jL_eq0, jI_L, jI_add, jI_sub, jI_mul, jI_neg, jL_add, jL_sub, jL_mul, jL_neg, jL_I, jI_div, jI_mod, jL_div, jL_mod] at c
        omega
      · have c6 := ct_216 G hm hi (k := n) (by omega)
        have ej : jI ((n + 1 : Nat) : Int) - jI 1 = jI (n : Nat) := by
          rw [jI_sub]
          congr 1
          omega
        rw [← ej] at c6
        refine ⟨hm.1, jcall c6 ⟨fun c2 => ?_, fun c2 => ?_⟩⟩
        · have c3 : h.1 1439 (1100 * i + n) = 0 := c2
          refine ih _ (by omega) (fun j h1 h2 => ?_) ?_
          · rcases Nat.lt_or_ge n j with z | z
            · exact hz j (by omega) h2
            · rw [show j = n by omega]
              exact c3
          · rw [jI_add]
            congr 1
            omega
        · exact ⟨rfl, n + 1, rfl, hn, hz, Or.inr c2⟩
  refine hR 30 0 _ _ _ _ _ _ rfl ?_
  exact loop 1100 _ (Nat.le_refl _) (fun j h1 h2 => by omega) rfl
