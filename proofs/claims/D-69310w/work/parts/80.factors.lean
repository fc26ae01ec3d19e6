/-! contracts: factors -/
abbrev pN : Type := Nat × Nat
def isFc (h : mj_H) (fs : List pN) : Prop := hI h 70 1 = jI fs.length ∧ fs.length ≤ 8 ∧ ∀ (i : Nat) (p : pN), fs[i]? = some p → hI h 71 i = jI p.1 ∧ hI h 72 i = jI p.2
def prodF : List pN → Nat
  | [] => 1
  | p :: t => p.1 ^ p.2 * prodF t
theorem prodF_app (x : List pN) (p : pN) : prodF (x ++ [p]) = prodF x * p.1 ^ p.2 := by
  induction x with
  | nil => show p.1 ^ p.2 * 1 = 1 * p.1 ^ p.2; omega
  | cons q t ih =>
    show q.1 ^ q.2 * prodF (t ++ [p]) = q.1 ^ q.2 * prodF t * p.1 ^ p.2
    rw [ih, Nat.mul_assoc]
abbrev inFc (a : Nat) : Prop := a = 70 ∨ a = 71 ∨ a = 72
theorem isFc.F {S T : Nat → Prop} {h h' : mj_H} (f : Fr S T h h') {fs : List pN} (a : isFc h fs) (h1 : ¬ S 70) (h2 : ¬ S 71) (h3 : ¬ S 72) : isFc h' fs := ⟨(f.I h1 _).trans a.1, a.2.1, fun i p hp => ⟨(f.I h2 _).trans (a.2.2 i p hp).1, (f.I h3 _).trans (a.2.2 i p hp).2⟩⟩
/-- FormHouse$Factors.add(II)V; cuts at [10, 20] -/
def cd_143 : List mj_E := [(0, false, .aload_n 0, 1, 0, 0, 0, 0, 0),
  (1, false, .getfield 15, 3, 13, 2, 2, 0, 0),
  (4, false, .aload_n 0, 1, 0, 0, 0, 0, 0),
  (5, false, .getfield 22, 3, 13, 1, 0, 0, 0),
  (8, false, .iload_n 1, 1, 0, 0, 0, 0, 0),
  (9, false, .iastore, 1, 0, 0, 0, 0, 0),
  (10, true, .aload_n 0, 1, 0, 0, 0, 0, 0),
  (11, false, .getfield 19, 3, 13, 3, 2, 0, 0),
  (14, false, .aload_n 0, 1, 0, 0, 0, 0, 0),
  (15, false, .getfield 22, 3, 13, 1, 0, 0, 0),
  (18, false, .iload_n 2, 1, 0, 0, 0, 0, 0),
  (19, false, .iastore, 1, 0, 0, 0, 0, 0),
  (20, true, .aload_n 0, 1, 0, 0, 0, 0, 0),
  (21, false, .dup, 1, 0, 0, 0, 0, 0),
  (22, false, .getfield 22, 3, 13, 1, 0, 0, 0),
  (25, false, .iconst 1, 1, 0, 0, 0, jI 1, 0),
  (26, false, .iadd, 1, 0, 0, 0, 0, 0),
  (27, false, .putfield 22, 3, 13, 1, 0, 0, 0),
  (30, false, .return_, 1, 0, 0, 0, 0, 0)]
def cx_143 : mj_X := (0, [], [])
theorem tb_143 : mj_tab (mj_mt 143) cx_143 cd_143 mj_mh [(0, 0, 0), (2153, 0, 0), (0, 0, 0), (2151, 0, 0), (0, 0, 0), (0, 0, 0), (0, 0, 0), (2155, 0, 0), (0, 0, 0), (2151, 0, 0), (0, 0, 0), (0, 0, 0), (0, 0, 0), (0, 0, 0), (2151, 0, 0), (0, 0, 0), (0, 0, 0), (2151, 0, 0), (0, 0, 0)] = true := mj_tab_f (by decide +kernel)
theorem ct_143 (G : mj_G) {h : mj_H} (L : isLay h) {fs : List pN} (hf : isFc h fs) (hl : fs.length < 8) (p e : Nat) : mj_Ct G (mj_mt 143) 0 0 [.ref 70, .int (jI p), .int (jI e)] h (fun o h' => o = .returned none ∧ isFc h' (fs ++ [(p, e)]) ∧ Fr inFc noT h h') := by
  obtain ⟨f1, f2, f3⟩ := hf
  have hin : vp_in (jI fs.length) 8 := jI_in (by omega) (by omega) (by omega)
  have nat : (jI (fs.length : Int)).toNatClampNeg = fs.length := by rw [jI_nat (by omega) (by omega), Int.toNat_natCast]
  refine mj_Ct_of mj_ok tb_143 rfl rfl (Nat.le_of_ble_eq_true rfl) (fun Run hR => ?_)
  have F1 : Fr inFc noT h (sI h 71 fs.length (jI p)) := (Fr.refl inFc noT h).sI (by omega) _ _
  have L1 := L.F F1 (fun _ z => z.elim)
  have F2 : Fr inFc noT h (sI (sI h 71 fs.length (jI p)) 72 fs.length (jI e)) := F1.sI (by omega) _ _
  have L2 := L.F F2 (fun _ z => z.elim)
  have e1 : hI (sI h 71 fs.length (jI p)) 70 1 = jI fs.length := (congrFun (sI_a _ (by decide) _ _) _).trans f1
  have e2 : hI (sI (sI h 71 fs.length (jI p)) 72 fs.length (jI e)) 70 1 = jI fs.length := (congrFun (sI_a _ (by decide) _ _) _).trans e1
  have r20 : Run 20 [some (.ref 70), some (.int (jI p)), some (.int (jI e))] [] (sI (sI h 71 fs.length (jI p)) 72 fs.length (jI e)) (0, 0) := by
    refine hR 40 12 _ _ _ _ _ _ rfl ?_
    refine ⟨L2.K 70 rfl, L2.K 70 rfl, ?_⟩
    refine ⟨rfl, ⟨?_, ?_, ?_⟩, F2.sI (by omega) _ _⟩
    · rw [sI_at, e2, jI_add]
      simp only [List.length_append, List.length_cons, List.length_nil]
      rfl
    · simp only [List.length_append, List.length_cons, List.length_nil]
      omega
    · intro i q hq
      have a7 : (sI (sI (sI h 71 fs.length (jI p)) 72 fs.length (jI e)) 70 1 (hI (sI (sI h 71 fs.length (jI p)) 72 fs.length (jI e)) 70 1 + jI 1)).1 71 = (sI h 71 fs.length (jI p)).1 71 := (sI_a _ (by decide) _ _).trans (sI_a _ (by decide) _ _)
      have a8 : (sI (sI (sI h 71 fs.length (jI p)) 72 fs.length (jI e)) 70 1 (hI (sI (sI h 71 fs.length (jI p)) 72 fs.length (jI e)) 70 1 + jI 1)).1 72 = (sI (sI h 71 fs.length (jI p)) 72 fs.length (jI e)).1 72 := sI_a _ (by decide) _ _
      have a9 : (sI h 71 fs.length (jI p)).1 72 = h.1 72 := sI_a _ (by decide) _ _
      by_cases hi : i = fs.length
      · subst hi
        rw [List.getElem?_append_right (Nat.le_refl _), Nat.sub_self] at hq
        have h9 : some (p, e) = some q := hq
        rw [← Option.some.inj h9]
        exact ⟨(congrFun a7 _).trans (sI_at _ _ _ _), (congrFun a8 _).trans (sI_at _ _ _ _)⟩
      · have hlt := lt_of_some hq
        simp only [List.length_append, List.length_cons, List.length_nil] at hlt
        rw [List.getElem?_append_left (by omega)] at hq
        obtain ⟨b1, b2⟩ := f3 i q hq
        exact ⟨(congrFun a7 _).trans ((sI_k _ _ hi _).trans b1), (congrFun a8 _).trans ((sI_k _ _ hi _).trans ((congrFun a9 _).trans b2))⟩
  have r10 : Run 10 [some (.ref 70), some (.int (jI p)), some (.int (jI e))] [] (sI h 71 fs.length (jI p)) (0, 0) := by
    refine hR 40 6 _ _ _ _ _ _ rfl ?_
    refine ⟨L1.K 70 rfl, _, L1.R 70 3 _ rfl, L1.K 70 rfl, ?_⟩
    rw [e1]
    refine ⟨L1.K 72 rfl, ?_, ?_⟩
    · rw [show hN (sI h 71 fs.length (jI p)) 72 = 8 from L1.N 71 rfl]
      exact hin
    · rw [nat]
      exact r20
  refine hR 40 0 _ _ _ _ _ _ rfl ?_
  refine ⟨L.K 70 rfl, _, L.R 70 2 _ rfl, L.K 70 rfl, ?_⟩
  rw [f1]
  refine ⟨L.K 71 rfl, ?_, ?_⟩
  · rw [show hN h 71 = 8 from L.N 70 rfl]
    exact hin
  · rw [nat]
    exact r10
/-- FormHouse$Factors.takeOut(II)I; cuts at [5, 21, 33] -/
def cd_142 : List mj_E := [(0, false, .iload_n 1, 1, 0, 0, 0, 0, 0),
  (1, false, .istore_n 3, 1, 0, 0, 0, 0, 0),
  (2, false, .iconst 0, 1, 0, 0, 0, jI 0, 0),
  (3, false, .istore 4, 2, 0, 0, 0, 0, 0),
  (5, true, .iload_n 3, 1, 0, 0, 0, 0, 0),
  (6, false, .iload_n 2, 1, 0, 0, 0, 0, 0),
  (7, false, .irem, 1, 0, 0, 0, 0, 0),
  (8, false, .ifCond .ne 13, 3, 14, 0, 0, 0, 0),
  (11, false, .iload_n 3, 1, 0, 0, 0, 0, 0),
  (12, false, .iload_n 2, 1, 0, 0, 0, 0, 0),
  (13, false, .idiv, 1, 0, 0, 0, 0, 0),
  (14, false, .istore_n 3, 1, 0, 0, 0, 0, 0),
  (15, false, .iinc 4 1, 3, 0, 0, 0, jI 1, 0),
  (18, false, .goto (-13), 3, 4, 0, 0, 0, 0),
  (21, true, .iload 4, 2, 0, 0, 0, 0, 0),
  (23, false, .ifCond .le 10, 3, 20, 0, 0, 0, 0),
  (26, false, .aload_n 0, 1, 0, 0, 0, 0, 0),
  (27, false, .iload_n 2, 1, 0, 0, 0, 0, 0),
  (28, false, .iload 4, 2, 0, 0, 0, 0, 0),
  (30, false, .invokevirtual 29, 3, 143, 2, 13, 0, 0),
  (33, true, .iload_n 3, 1, 0, 0, 0, 0, 0),
  (34, false, .ireturn, 1, 0, 0, 0, 0, 0)]
def cx_142 : mj_X := (1, [], [])
theorem tb_142 : mj_tab (mj_mt 142) cx_142 cd_142 mj_mh [(0, 0, 0), (0, 0, 0), (0, 0, 0), (0, 0, 0), (0, 0, 0), (0, 0, 0), (0, 0, 0), (0, 0, 0), (0, 0, 0), (0, 0, 0), (0, 0, 0), (0, 0, 0), (0, 0, 0), (0, 0, 0), (0, 0, 0), (0, 0, 0), (0, 0, 0), (0, 0, 0), (0, 0, 0), (6004, 0, 0), (0, 0, 0), (0, 0, 0)] = true := mj_tab_f (by decide +kernel)
theorem ct_142 (G : mj_G) {h : mj_H} (L : isLay h) {fs : List pN} (hf : isFc h fs) {r p : Nat} (hr : 0 < r ∧ r < 2147483648) (hp : 2 ≤ p ∧ p < 2147483648) (hl : p ∣ r → fs.length < 8) : mj_Ct G (mj_mt 142) 0 0 [.ref 70, .int (jI r), .int (jI p)] h (fun o h' => ∃ e r' : Nat, r = p ^ e * r' ∧ ¬ p ∣ r' ∧ o = .returned (some (.int (jI r'))) ∧ isFc h' (if e = 0 then fs else fs ++ [(p, e)]) ∧ Fr inFc noT h h') := by
  refine mj_Ct_of mj_ok tb_142 rfl rfl (Nat.le_of_ble_eq_true rfl) (fun Run hR => ?_)
  have loop : ∀ (t r' e : Nat) (rI eI : Int32), r' ≤ t → 0 < r' → r = p ^ e * r' → e ≤ 40 → rI = jI r' → eI = jI e → Run 5 [some (.ref 70), some (.int (jI r)), some (.int (jI p)), some (.int rI), some (.int eI)] [] h (0, 0) := by
    intro t
    induction t with
    | zero => intro r' e rI eI h1 h2; omega
    | succ t ih =>
      rintro r' e rI eI ht h0 he h40 rfl rfl
      have hpe : 0 < p ^ e := Nat.pow_pos (by omega)
      have hrr : r' ≤ r := by
        rw [he]
        exact Nat.le_mul_of_pos_left _ hpe
      have em : jI (r' : Int) % jI (p : Int) = jI ((r' % p : Nat) : Int) := by
        rw [jI_mod (by omega) (by omega) (by omega) (by omega)]
        rfl
      have hml := Nat.mod_lt r' (show 0 < p by omega)
      refine hR 40 4 _ _ _ _ _ _ rfl ?_
      refine ⟨?_, ?_⟩
      · simp (disch := omega) only [mj_lcm, jI_lt, jI_le, jI_eq, jL_lt, jL_le, jL_eq, jI_lt0, jI_0le, jI_0lt, jI_le0, jI_eq0, jL_eq0, jI_L, jI_add, jI_sub, jI_mul, jI_neg, jL_add, jL_sub, jL_mul, jL_neg, jL_I, jI_div, jI_mod, jL_div, jL_mod]
        omega
      · rw [em]
        refine ⟨fun c => ⟨?_, ?_⟩, fun c => ?_⟩
        · simp (disch := omega) only [mj_lcm, jI_lt, jI_le, jI_eq, jL_lt, jL_le, jL_eq, jI_lt0, jI_0le, jI_0lt, jI_le0, jI_eq0, jL_eq0, jI_L, jI_add, jI_sub, jI_mul, jI_neg, jL_add, jL_sub, jL_mul, jL_neg, jL_I, jI_div, jI_mod, jL_div, jL_mod]
          omega
        · simp (disch := omega) only [mj_lcm, jI_lt, jI_le, jI_eq, jL_lt, jL_le, jL_eq, jI_lt0, jI_0le, jI_0lt, jI_le0, jI_eq0, jL_eq0, jI_L, jI_add, jI_sub, jI_mul, jI_neg, jL_add, jL_sub, jL_mul, jL_neg, jL_I, jI_div, jI_mod, jL_div, jL_mod] at c
          obtain ⟨q, hq⟩ : p ∣ r' := Nat.dvd_of_mod_eq_zero (by omega)
          have hq0 : 0 < q := by
            rcases Nat.eq_zero_or_pos q with z | z
            · rw [z, Nat.mul_zero] at hq
              omega
            · exact z
          have h2q : 2 * q ≤ p * q := Nat.mul_le_mul_right _ hp.1
          have ed : jI (r' : Int) / jI (p : Int) = jI (q : Int) := by
            rw [jI_div (by omega) (by omega) (by omega) (by omega), Int.tdiv_eq_ediv_of_nonneg (by omega), hq, Int.natCast_mul, Int.mul_ediv_cancel_left _ (by omega)]
          have he' : r = p ^ (e + 1) * q := by rw [he, hq, Nat.pow_succ, Nat.mul_assoc]
          refine ih q (e + 1) _ _ (by omega) hq0 he' ?_ ed (jI_add _ _)
          rcases Nat.lt_or_ge e 40 with z | z
          · omega
          · exfalso
            have h3 : 2 ^ 40 ≤ p ^ (e + 1) := Nat.le_trans (Nat.pow_le_pow_right (by decide) (by omega)) (Nat.pow_le_pow_left hp.1 _)
            have h4 : p ^ (e + 1) * 1 ≤ p ^ (e + 1) * q := Nat.mul_le_mul_left _ hq0
            have h5 : (2 : Nat) ^ 40 = 1099511627776 := by decide
            omega
        · simp (disch := omega) only [mj_lcm, jI_lt, jI_le, jI_eq, jL_lt, jL_le, jL_eq, jI_lt0, jI_0le, jI_0lt, jI_le0, jI_eq0, jL_eq0, jI_L, jI_add, jI_sub, jI_mul, jI_neg, jL_add, jL_sub, jL_mul, jL_neg, jL_I, jI_div, jI_mod, jL_div, jL_mod] at c
          have hnd : ¬ p ∣ r' := fun z => by
            have := Nat.mod_eq_zero_of_dvd z
            omega
          refine hR 40 14 _ _ _ _ _ _ rfl ?_
          refine ⟨fun c2 => ?_, fun c2 => ?_⟩
          · simp (disch := omega) only [mj_lcm, jI_lt, jI_le, jI_eq, jL_lt, jL_le, jL_eq, jI_lt0, jI_0le, jI_0lt, jI_le0, jI_eq0, jL_eq0, jI_L, jI_add, jI_sub, jI_mul, jI_neg, jL_add, jL_sub, jL_mul, jL_neg, jL_I, jI_div, jI_mod, jL_div, jL_mod] at c2
            have e0 : e = 0 := by omega
            subst e0
            refine hR 40 20 _ _ _ _ _ _ rfl ?_
            exact ⟨0, r', he, hnd, rfl, hf, Fr.refl _ _ _⟩
          · simp (disch := omega) only [mj_lcm, jI_lt, jI_le, jI_eq, jL_lt, jL_le, jL_eq, jI_lt0, jI_0le, jI_0lt, jI_le0, jI_eq0, jL_eq0, jI_L, jI_add, jI_sub, jI_mul, jI_neg, jL_add, jL_sub, jL_mul, jL_neg, jL_I, jI_div, jI_mod, jL_div, jL_mod] at c2
            have hpr : p ∣ r := by
              rw [he, show e = (e - 1) + 1 by omega, Nat.pow_succ]
              exact ⟨p ^ (e - 1) * r', by rw [Nat.mul_comm (p ^ (e - 1)) p, Nat.mul_assoc]⟩
            refine ⟨L.K 70 rfl, jcallP (ct_143 G L hf (hl hpr) p e) ?_⟩
            rintro o h2 ⟨rfl, hf2, F2⟩
            refine hR 40 20 _ _ _ _ _ _ rfl ?_
            refine ⟨e, r', he, hnd, rfl, ?_, F2⟩
            rw [if_neg (by omega)]
            exact hf2
  refine hR 40 0 _ _ _ _ _ _ rfl ?_
  exact loop r r 0 _ _ (Nat.le_refl _) hr.1 (by rw [Nat.pow_zero, Nat.one_mul]) (by decide) rfl rfl
def cNf : Nat → Nat
  | 0 => 1
  | k + 1 => cNf k * (if k = 0 then 2 else 2 * k + 1)
theorem cNf_pos : ∀ k, 0 < cNf k
  | 0 => by decide
  | k + 1 => Nat.mul_pos (cNf_pos k) (by split <;> omega)
theorem cNf_mono : ∀ (j k : Nat), cNf k ≤ cNf (k + j)
  | 0, k => Nat.le_refl _
  | j + 1, k => by
    have h := cNf_mono j k
    show cNf k ≤ cNf (k + j) * (if k + j = 0 then 2 else 2 * (k + j) + 1)
    have : cNf (k + j) * 1 ≤ cNf (k + j) * (if k + j = 0 then 2 else 2 * (k + j) + 1) := Nat.mul_le_mul_left _ (by split <;> omega)
    omega
/-- the factors of a number -/
def FacP (N : Nat) (fs : List pN) : Prop := prodF fs = N ∧ (∀ q : pN, q ∈ fs → Pr q.1 ∧ 0 < q.2) ∧ ∀ (i j : Nat) (p q : pN), i < j → fs[i]? = some p → fs[j]? = some q → p.1 < q.1
/-- on the way: r is left, p is tried -/
def FacI (N r p : Nat) (fs : List pN) : Prop := 0 < r ∧ prodF fs * r = N ∧ (∀ q, Pr q → q ∣ r → p ≤ q) ∧ 2 * fs.length ≤ p ∧ cNf fs.length ≤ prodF fs ∧ (∀ q : pN, q ∈ fs → Pr q.1 ∧ 0 < q.2 ∧ q.1 < p) ∧ ∀ (i j : Nat) (x y : pN), i < j → fs[i]? = some x → fs[j]? = some y → x.1 < y.1
theorem FacI.len {N r p : Nat} {fs : List pN} (a : FacI N r p fs) (hN : N ≤ 4000000) (ho : fs.length = 0 ∨ 2 * fs.length + 1 ≤ p) (hd : p ≤ r) : fs.length < 7 := by
  obtain ⟨a1, a2, a3, a4, a5, a6, a7⟩ := a
  rcases Nat.lt_or_ge fs.length 7 with z | z
  · exact z
  · exfalso
    have h1 := cNf_mono (fs.length - 7) 7
    rw [show 7 + (fs.length - 7) = fs.length by omega] at h1
    have h2 : cNf 7 * 15 ≤ prodF fs * r := Nat.mul_le_mul (by omega) (by omega)
    have h3 : cNf 7 = 270270 := by decide
    omega
/-- a prime's part is taken out -/
theorem FacI.step {N r p e r' : Nat} {fs : List pN} (a : FacI N r p fs) (hp2 : 2 ≤ p) (ho : fs.length = 0 ∨ 2 * fs.length + 1 ≤ p) (hr : r = p ^ e * r') (hnd : ¬ p ∣ r') : FacI N r' (p + 1) (if e = 0 then fs else fs ++ [(p, e)]) := by
  obtain ⟨a1, a2, a3, a4, a5, a6, a7⟩ := a
  have hr0 : 0 < r' := by
    rcases Nat.eq_zero_or_pos r' with z | z
    · rw [z, Nat.mul_zero] at hr
      omega
    · exact z
  have hmin : ∀ q, Pr q → q ∣ r' → p + 1 ≤ q := by
    intro q hq hqr
    have := a3 q hq (by rw [hr]; exact Nat.dvd_mul_left_of_dvd hqr _)
    rcases Nat.lt_or_ge p q with z | z
    · exact z
    · exfalso
      have : q = p := by omega
      subst this
      exact hnd hqr
  by_cases e0 : e = 0
  · subst e0
    rw [if_pos rfl]
    rw [Nat.pow_zero, Nat.one_mul] at hr
    subst hr
    refine ⟨a1, a2, hmin, by omega, a5, fun q hq => ?_, a7⟩
    obtain ⟨b1, b2, b3⟩ := a6 q hq
    exact ⟨b1, b2, by omega⟩
  · rw [if_neg e0]
    have hpr : p ∣ r := by
      rw [hr, show e = (e - 1) + 1 by omega, Nat.pow_succ]
      exact ⟨p ^ (e - 1) * r', by rw [Nat.mul_comm (p ^ (e - 1)) p, Nat.mul_assoc]⟩
    have hpp : Pr p := pr_of_least a1 hp2 a3 hpr
    refine ⟨hr0, ?_, hmin, ?_, ?_, ?_, ?_⟩
    · rw [prodF_app, Nat.mul_assoc, ← a2, hr]
    · simp only [List.length_append, List.length_cons, List.length_nil]
      omega
    · simp only [List.length_append, List.length_cons, List.length_nil]
      rw [prodF_app]
      show cNf fs.length * _ ≤ prodF fs * p ^ e
      refine Nat.mul_le_mul a5 ?_
      have h1 : p ^ 1 ≤ p ^ e := Nat.pow_le_pow_right (by omega) (by omega)
      rw [Nat.pow_one] at h1
      split <;> omega
    · intro q hq
      rcases List.mem_append.1 hq with z | z
      · obtain ⟨b1, b2, b3⟩ := a6 q z
        exact ⟨b1, b2, by omega⟩
      · have := List.mem_singleton.1 z
        subst this
        exact ⟨hpp, by show 0 < e; omega, by show p < p + 1; omega⟩
    · intro i j x y hij hx hy
      have hjl := lt_of_some hy
      simp only [List.length_append, List.length_cons, List.length_nil] at hjl
      rw [List.getElem?_append_left (by omega)] at hx
      by_cases hj : j = fs.length
      · subst hj
        rw [List.getElem?_append_right (Nat.le_refl _), Nat.sub_self] at hy
        have h9 : some (p, e) = some y := hy
        rw [← Option.some.inj h9]
        exact (a6 x (List.mem_of_getElem? hx)).2.2
      · rw [List.getElem?_append_left (by omega)] at hy
        exact a7 i j x y hij hx hy
theorem FacI.up {N r p p' : Nat} {fs : List pN} (a : FacI N r p fs) (hp : p ≤ p') (hm : ∀ q, Pr q → q ∣ r → p' ≤ q) : FacI N r p' fs := by
  obtain ⟨a1, a2, a3, a4, a5, a6, a7⟩ := a
  exact ⟨a1, a2, hm, by omega, a5, fun q hq => ⟨(a6 q hq).1, (a6 q hq).2.1, by have := (a6 q hq).2.2; omega⟩, a7⟩
/-- FormHouse$Factors.take(I)V; cuts at [10, 22, 27, 45, 60] -/
def cl_141_2 : List mj_E := (71, false, .return_, 1, 0, 0, 0, 0, 0) ::
  []
def cl_141_1 : List mj_E := (33, false, .i2l, 1, 0, 0, 0, 0, 0) ::
  (34, false, .lcmp, 1, 0, 0, 0, 0, 0) ::
  (35, false, .ifCond .gt 25, 3, 41, 0, 0, 0, 0) ::
  (38, false, .aload_n 0, 1, 0, 0, 0, 0, 0) ::
  (39, false, .iload_n 2, 1, 0, 0, 0, 0, 0) ::
  (40, false, .iload_n 3, 1, 0, 0, 0, 0, 0) ::
  (41, false, .invokevirtual 25, 3, 142, 2, 13, 0, 0) ::
  (44, false, .istore_n 2, 1, 0, 0, 0, 0, 0) ::
  (45, true, .iload_n 3, 1, 0, 0, 0, 0, 0) ::
  (46, false, .iload 4, 2, 0, 0, 0, 0, 0) ::
  (48, false, .iadd, 1, 0, 0, 0, 0, 0) ::
  (49, false, .istore_n 3, 1, 0, 0, 0, 0, 0) ::
  (50, false, .bipush 6, 2, 0, 0, 0, jI 6, 0) ::
  (52, false, .iload 4, 2, 0, 0, 0, 0, 0) ::
  (54, false, .isub, 1, 0, 0, 0, 0, 0) ::
  (55, false, .istore 4, 2, 0, 0, 0, 0, 0) ::
  (57, false, .goto (-30), 3, 18, 0, 0, 0, 0) ::
  (60, true, .iload_n 2, 1, 0, 0, 0, 0, 0) ::
  (61, false, .iconst 1, 1, 0, 0, 0, jI 1, 0) ::
  (62, false, .if_icmp .le 9, 3, 48, 0, 0, 0, 0) ::
  (65, false, .aload_n 0, 1, 0, 0, 0, 0, 0) ::
  (66, false, .iload_n 2, 1, 0, 0, 0, 0, 0) ::
  (67, false, .iconst 1, 1, 0, 0, 0, jI 1, 0) ::
  (68, false, .invokevirtual 29, 3, 143, 2, 13, 0, 0) ::
  cl_141_2
def cl_141_0 : List mj_E := (0, false, .aload_n 0, 1, 0, 0, 0, 0, 0) ::
  (1, false, .iload_n 1, 1, 0, 0, 0, 0, 0) ::
  (2, false, .putfield 9, 3, 13, 0, 0, 0, 0) ::
  (5, false, .aload_n 0, 1, 0, 0, 0, 0, 0) ::
  (6, false, .iconst 0, 1, 0, 0, 0, jI 0, 0) ::
  (7, false, .putfield 22, 3, 13, 1, 0, 0, 0) ::
  (10, true, .aload_n 0, 1, 0, 0, 0, 0, 0) ::
  (11, false, .aload_n 0, 1, 0, 0, 0, 0, 0) ::
  (12, false, .iload_n 1, 1, 0, 0, 0, 0, 0) ::
  (13, false, .iconst 2, 1, 0, 0, 0, jI 2, 0) ::
  (14, false, .invokevirtual 25, 3, 142, 2, 13, 0, 0) ::
  (17, false, .iconst 3, 1, 0, 0, 0, jI 3, 0) ::
  (18, false, .invokevirtual 25, 3, 142, 2, 13, 0, 0) ::
  (21, false, .istore_n 2, 1, 0, 0, 0, 0, 0) ::
  (22, true, .iconst 5, 1, 0, 0, 0, jI 5, 0) ::
  (23, false, .istore_n 3, 1, 0, 0, 0, 0, 0) ::
  (24, false, .iconst 2, 1, 0, 0, 0, jI 2, 0) ::
  (25, false, .istore 4, 2, 0, 0, 0, 0, 0) ::
  (27, true, .iload_n 3, 1, 0, 0, 0, 0, 0) ::
  (28, false, .i2l, 1, 0, 0, 0, 0, 0) ::
  (29, false, .iload_n 3, 1, 0, 0, 0, 0, 0) ::
  (30, false, .i2l, 1, 0, 0, 0, 0, 0) ::
  (31, false, .lmul, 1, 0, 0, 0, 0, 0) ::
  (32, false, .iload_n 2, 1, 0, 0, 0, 0, 0) ::
  cl_141_1
def cd_141 : List mj_E := cl_141_0
def cx_141 : mj_X := (0, [], [])
theorem tb_141 : mj_tab (mj_mt 141) cx_141 cd_141 mj_mh [(0, 0, 0), (0, 0, 0), (2150, 0, 0), (0, 0, 0), (0, 0, 0), (2151, 0, 0), (0, 0, 0), (0, 0, 0), (0, 0, 0), (0, 0, 0), (6000, 0, 0), (0, 0, 0), (6000, 0, 0), (0, 0, 0), (0, 0, 0), (0, 0, 0), (0, 0, 0), (0, 0, 0), (0, 0, 0), (0, 0, 0), (0, 0, 0), (0, 0, 0), (0, 0, 0), (0, 0, 0), (0, 0, 0), (0, 0, 0), (0, 0, 0), (0, 0, 0), (0, 0, 0), (0, 0, 0), (6000, 0, 0), (0, 0, 0), (0, 0, 0), (0, 0, 0), (0, 0, 0), (0, 0, 0), (0, 0, 0), (0, 0, 0), (0, 0, 0), (0, 0, 0), (0, 0, 0), (0, 0, 0), (0, 0, 0), (0, 0, 0), (0, 0, 0), (0, 0, 0), (0, 0, 0), (6004, 0, 0), (0, 0, 0)] = true := mj_tab_f (by decide +kernel)
theorem ct_141 (G : mj_G) {h : mj_H} (L : isLay h) {N : Nat} (hN : 0 < N ∧ N ≤ 4000000) : mj_Ct G (mj_mt 141) 0 0 [.ref 70, .int (jI N)] h (fun o h' => o = .returned none ∧ (∃ fs, FacP N fs ∧ isFc h' fs) ∧ Fr inFc noT h h') := by
  refine mj_Ct_of mj_ok tb_141 rfl rfl (Nat.le_of_ble_eq_true rfl) (fun Run hR => ?_)
  have r60 : ∀ (r p : Nat) (fs : List pN) (h' : mj_H) (x3 x4 : Option Value), FacI N r p fs → r < p * p → 5 ≤ p → (fs.length = 0 ∨ 2 * fs.length + 1 ≤ p) → isFc h' fs → Fr inFc noT h h' → Run 60 [some (.ref 70), some (.int (jI N)), some (.int (jI r)), x3, x4] [] h' (0, 0) := by
    intro r p fs h' x3 x4 hi hrp hp5 ho hc F
    have L0 := L.F F (fun _ z => z.elim)
    have hi' := hi
    obtain ⟨i1, i2, i3, i4, i5, i6, i7⟩ := hi'
    have hrN : r ≤ N := by
      rw [← i2]
      exact Nat.le_mul_of_pos_left _ (Nat.lt_of_lt_of_le (cNf_pos _) i5)
    refine hR 60 41 _ _ _ _ _ _ rfl ?_
    refine ⟨fun c => ?_, fun c => ?_⟩
    · simp (disch := omega) only [mj_lcm, jI_lt, jI_le, jI_eq, jL_lt, jL_le, jL_eq, jI_lt0, jI_0le, jI_0lt, jI_le0, jI_eq0, jL_eq0, jI_L, jI_add, jI_sub, jI_mul, jI_neg, jL_add, jL_sub, jL_mul, jL_neg, jL_I, jI_div, jI_mod, jL_div, jL_mod] at c
      have hr1 : r = 1 := by omega
      subst hr1
      rw [Nat.mul_one] at i2
      exact ⟨rfl, ⟨fs, ⟨i2, fun q hq => ⟨(i6 q hq).1, (i6 q hq).2.1⟩, i7⟩, hc⟩, F⟩
    · simp (disch := omega) only [mj_lcm, jI_lt, jI_le, jI_eq, jL_lt, jL_le, jL_eq, jI_lt0, jI_0le, jI_0lt, jI_le0, jI_eq0, jL_eq0, jI_L, jI_add, jI_sub, jI_mul, jI_neg, jL_add, jL_sub, jL_mul, jL_neg, jL_I, jI_div, jI_mod, jL_div, jL_mod] at c
      have hrp' : Pr r := pr_of_sq (by omega) i3 hrp
      have hpr : p ≤ r := i3 r hrp' (Nat.dvd_refl _)
      have hl := hi.len hN.2 ho hpr
      have hI2 : FacI N r r fs := hi.up hpr (fun q hq hqr => by
        rcases hrp'.2 q hqr with z | z
        · have := hq.1
          omega
        · omega)
      have hst := hI2.step (e := 1) (r' := 1) (by omega) (by omega) (by rw [Nat.pow_one, Nat.mul_one]) (fun z => by
        have := Nat.le_of_dvd (by decide) z
        omega)
      rw [if_neg (by decide)] at hst
      obtain ⟨j1, j2, j3, j4, j5, j6, j7⟩ := hst
      have c143 := ct_143 G L0 hc (by omega) r 1
      refine ⟨L0.K 70 rfl, jcallP c143 ?_⟩
      rintro o h2 ⟨rfl, hc2, F2⟩
      rw [Nat.mul_one] at j2
      exact ⟨rfl, ⟨_, ⟨j2, fun q hq => ⟨(j6 q hq).1, (j6 q hq).2.1⟩, j7⟩, hc2⟩, F.trans F2⟩
  have r27 : ∀ (t r p s : Nat) (fs : List pN) (rI pI sI : Int32) (h' : mj_H), 2010 ≤ p + t → FacI N r p fs → r % 2 ≠ 0 → r % 3 ≠ 0 → ((p % 6 = 5 ∧ s = 2) ∨ (p % 6 = 1 ∧ s = 4)) → 5 ≤ p → p ≤ 2020 → isFc h' fs → Fr inFc noT h h' → rI = jI r → pI = jI p → sI = jI s → Run 27 [some (.ref 70), some (.int (jI N)), some (.int rI), some (.int pI), some (.int sI)] [] h' (0, 0) := by
    intro t
    induction t with
    | zero =>
      rintro r p s fs rI pI sI h' ht hi h2 h3 hs hp5 hp6 hc F rfl rfl rfl
      have hi' := hi
      obtain ⟨i1, i2, i3, i4, i5, i6, i7⟩ := hi'
      have hrN : r ≤ N := by
        rw [← i2]
        exact Nat.le_mul_of_pos_left _ (Nat.lt_of_lt_of_le (cNf_pos _) i5)
      have hpp : 2010 * 2010 ≤ p * p := Nat.mul_le_mul (by omega) (by omega)
      have hpp2 : p * p ≤ 2020 * 2020 := Nat.mul_le_mul (by omega) (by omega)
      have hc4 : ((p * p : Nat) : Int) = (p : Int) * p := Int.natCast_mul ..
      refine hR 60 18 _ _ _ _ _ _ rfl ?_
      refine ⟨fun c => ?_, fun c => ?_⟩
      · exact r60 r p fs h' _ _ hi (by omega) hp5 (by omega) hc F
      · rw [jI_L (by omega) (by omega), jI_L (by omega) (by omega), jL_mul] at c
        simp (disch := omega) only [mj_lcm, jI_lt, jI_le, jI_eq, jL_lt, jL_le, jL_eq, jI_lt0, jI_0le, jI_0lt, jI_le0, jI_eq0, jL_eq0, jI_L, jI_add, jI_sub, jI_mul, jI_neg, jL_add, jL_sub, jL_mul, jL_neg, jL_I, jI_div, jI_mod, jL_div, jL_mod] at c
        omega
    | succ t ih =>
      rintro r p s fs rI pI sI h' ht hi h2 h3 hs hp5 hp6 hc F rfl rfl rfl
      have L0 := L.F F (fun _ z => z.elim)
      have hi' := hi
      obtain ⟨i1, i2, i3, i4, i5, i6, i7⟩ := hi'
      have hrN : r ≤ N := by
        rw [← i2]
        exact Nat.le_mul_of_pos_left _ (Nat.lt_of_lt_of_le (cNf_pos _) i5)
      have hpp2 : p * p ≤ 2020 * 2020 := Nat.mul_le_mul (by omega) (by omega)
      have hc4 : ((p * p : Nat) : Int) = (p : Int) * p := Int.natCast_mul ..
      have ho : fs.length = 0 ∨ 2 * fs.length + 1 ≤ p := by omega
      refine hR 60 18 _ _ _ _ _ _ rfl ?_
      refine ⟨fun c => ?_, fun c => ?_⟩
      · rw [jI_L (by omega) (by omega), jI_L (by omega) (by omega), jL_mul] at c
        simp (disch := omega) only [mj_lcm, jI_lt, jI_le, jI_eq, jL_lt, jL_le, jL_eq, jI_lt0, jI_0le, jI_0lt, jI_le0, jI_eq0, jL_eq0, jI_L, jI_add, jI_sub, jI_mul, jI_neg, jL_add, jL_sub, jL_mul, jL_neg, jL_I, jI_div, jI_mod, jL_div, jL_mod] at c
        exact r60 r p fs h' _ _ hi (by omega) hp5 ho hc F
      · rw [jI_L (by omega) (by omega), jI_L (by omega) (by omega), jL_mul] at c
        simp (disch := omega) only [mj_lcm, jI_lt, jI_le, jI_eq, jL_lt, jL_le, jL_eq, jI_lt0, jI_0le, jI_0lt, jI_le0, jI_eq0, jL_eq0, jI_L, jI_add, jI_sub, jI_mul, jI_neg, jL_add, jL_sub, jL_mul, jL_neg, jL_I, jI_div, jI_mod, jL_div, jL_mod] at c
        have hp2000 : p ≤ 2000 := by
          rcases Nat.lt_or_ge 2000 p with z | z
          · have : 2001 * 2001 ≤ p * p := Nat.mul_le_mul (by omega) (by omega)
            omega
          · exact z
        refine ⟨L0.K 70 rfl, jcallP (ct_142 G L0 hc (r := r) (p := p) (by omega) (by omega) (fun hd => by
          have := hi.len hN.2 ho (Nat.le_of_dvd i1 hd)
          omega)) ?_⟩
        rintro o g1 ⟨e, r', he, hnd, rfl, hc1, F1⟩
        have hst := hi.step (by omega) ho he hnd
        have h2' : r' % 2 ≠ 0 := fun z => h2 (by
          rw [he, Nat.mul_mod, z]
          simp)
        have h3' : r' % 3 ≠ 0 := fun z => h3 (by
          rw [he, Nat.mul_mod, z]
          simp)
        have hst2 : FacI N r' (p + s) (if e = 0 then fs else fs ++ [(p, e)]) := by
          refine hst.up (by omega) (fun q hq hqr => ?_)
          have h4 := hst.2.2.1 q hq hqr
          have q2 : q % 2 ≠ 0 := fun z => h2' (by
            obtain ⟨y, hy⟩ := hqr
            rw [hy, Nat.mul_mod, z]
            simp)
          have q3 : q % 3 ≠ 0 := fun z => h3' (by
            obtain ⟨y, hy⟩ := hqr
            rw [hy, Nat.mul_mod, z]
            simp)
          omega
        have r45 : Run 45 [some (.ref 70), some (.int (jI N)), some (.int (jI r')), some (.int (jI p)), some (.int (jI s))] [] g1 (0, 0) := by
          refine hR 60 32 _ _ _ _ _ _ rfl ?_
          refine ih r' (p + s) (6 - s) _ _ _ _ g1 (by omega) hst2 h2' h3' (by omega) (by omega) (by omega) hc1 (F.trans F1) rfl (jI_add _ _) ?_
          rw [jI_sub]
          congr 1
          omega
        exact r45
  have q0 : Fr inFc noT h (sI (sI h 70 0 (jI N)) 70 1 (jI 0)) := ((Fr.refl inFc noT h).sI (by omega) _ _).sI (by omega) _ _
  have hc0 : isFc (sI (sI h 70 0 (jI N)) 70 1 (jI 0)) [] := ⟨sI_at _ _ _ _, by decide, fun i p hp => by rw [List.getElem?_nil] at hp; cases hp⟩
  generalize hh0 : sI (sI h 70 0 (jI N)) 70 1 (jI 0) = h0 at q0 hc0
  have L0 := L.F q0 (fun _ z => z.elim)
  have i0 : FacI N N 2 [] := ⟨hN.1, by show 1 * N = N; omega, fun q hq _ => hq.1, by decide, by decide, fun q hq => by simp at hq, fun i j x y _ hx => by rw [List.getElem?_nil] at hx; cases hx⟩
  have r10 : ∀ (x2 x3 x4 : Option Value), Run 10 [some (.ref 70), some (.int (jI N)), x2, x3, x4] [] h0 (0, 0) := by
    intro x2 x3 x4
    refine hR 60 6 _ _ _ _ _ _ rfl ?_
    refine ⟨L0.K 70 rfl, jcallP (ct_142 G L0 hc0 (r := N) (p := 2) (by omega) (by decide) (fun _ => by decide)) ?_⟩
    rintro o g1 ⟨e, r1, he, hnd, rfl, hc1, F1⟩
    have L1 := L0.F F1 (fun _ z => z.elim)
    have s1 := i0.step (by decide) (Or.inl rfl) he hnd
    have hr1N : r1 ≤ N := by
      rw [he]
      exact Nat.le_mul_of_pos_left _ (Nat.pow_pos (by decide))
    have hl1 : (if e = 0 then ([] : List pN) else [] ++ [(2, e)]).length ≤ 1 := by
      split
      · decide
      · show 1 ≤ 1
        decide
    refine ⟨L1.K 70 rfl, jcallP (ct_142 G L1 hc1 (r := r1) (p := 3) ⟨s1.1, by omega⟩ (by decide) (fun _ => by omega)) ?_⟩
    rintro o g2 ⟨e2, r2, he2, hnd2, rfl, hc2, F2⟩
    have s2 := s1.step (by decide) (by omega) he2 hnd2
    have h2' : r2 % 2 ≠ 0 := fun z => hnd (by
      rw [he2]
      exact Nat.dvd_mul_left_of_dvd (Nat.dvd_of_mod_eq_zero z) _)
    have h3' : r2 % 3 ≠ 0 := fun z => hnd2 (Nat.dvd_of_mod_eq_zero z)
    have s3 := s2.up (p' := 5) (by decide) (fun q hq hqr => by
      have h4 := s2.2.2.1 q hq hqr
      have q2 : q % 2 ≠ 0 := fun z => h2' (by
        obtain ⟨y, hy⟩ := hqr
        rw [hy, Nat.mul_mod, z]
        simp)
      omega)
    have r22 : Run 22 [some (.ref 70), some (.int (jI N)), some (.int (jI r2)), x3, x4] [] g2 (0, 0) := by
      refine hR 60 14 _ _ _ _ _ _ rfl ?_
      exact r27 2010 r2 5 2 _ _ _ _ g2 (by omega) s3 h2' h3' (by decide) (by decide) (by decide) hc2 ((q0.trans F1).trans F2) rfl rfl rfl
    exact r22
  refine hR 60 0 _ _ _ _ _ _ rfl ?_
  refine ⟨L.K 70 rfl, L.K 70 rfl, ?_⟩
  rw [hh0]
  exact r10 _ _ _
/-- FormHouse$Factors.part(I)I; cuts at [] -/
def cd_145 : List mj_E := [(0, false, .aload_n 0, 1, 0, 0, 0, 0, 0),
  (1, false, .getfield 15, 3, 13, 2, 2, 0, 0),
  (4, false, .iload_n 1, 1, 0, 0, 0, 0, 0),
  (5, false, .iaload, 1, 0, 0, 0, 0, 0),
  (6, false, .aload_n 0, 1, 0, 0, 0, 0, 0),
  (7, false, .getfield 19, 3, 13, 3, 2, 0, 0),
  (10, false, .iload_n 1, 1, 0, 0, 0, 0, 0),
  (11, false, .iaload, 1, 0, 0, 0, 0, 0),
  (12, false, .invokestatic 33, 3, 146, 2, 0, 0, 0),
  (15, false, .ireturn, 1, 0, 0, 0, 0, 0)]
def cx_145 : mj_X := (1, [], [])
theorem tb_145 : mj_tab (mj_mt 145) cx_145 cd_145 mj_mh [(0, 0, 0), (2153, 0, 0), (0, 0, 0), (0, 0, 0), (0, 0, 0), (2155, 0, 0), (0, 0, 0), (0, 0, 0), (6016, 0, 0), (0, 0, 0)] = true := mj_tab_f (by decide +kernel)
theorem ct_145 (G : mj_G) {h : mj_H} (L : isLay h) {fs : List pN} (hf : isFc h fs) {k : Nat} {p : pN} (hk : fs[k]? = some p) (hp : 0 < p.1) (hb : p.1 ^ p.2 < 2147483648) (hb2 : p.2 < 2147483648) : mj_Ct G (mj_mt 145) 0 0 [.ref 70, .int (jI k)] h (jR (.int (jI (p.1 ^ p.2 : Nat))) h) := by
  have hkl := lt_of_some hk
  obtain ⟨f1, f2, f3⟩ := hf
  obtain ⟨b1, b2⟩ := f3 k p hk
  have n7 : hI h 71 (jI k).toNatClampNeg = jI p.1 := by
    rw [jI_nat (by omega) (by omega), Int.toNat_natCast]
    exact b1
  have n8 : hI h 72 (jI k).toNatClampNeg = jI p.2 := by
    rw [jI_nat (by omega) (by omega), Int.toNat_natCast]
    exact b2
  refine mj_Ct_of mj_ok tb_145 rfl rfl (Nat.le_of_ble_eq_true rfl) (fun Run hR => ?_)
  refine hR 40 0 _ _ _ _ _ _ rfl ?_
  refine ⟨L.K 70 rfl, _, L.R 70 2 _ rfl, Or.inl (L.K 71 rfl), ?_, L.K 70 rfl, _, L.R 70 3 _ rfl, Or.inl (L.K 72 rfl), ?_, ?_⟩
  · rw [show hN h 71 = 8 from L.N 70 rfl]
    exact jI_in (by omega) (by omega) (by omega)
  · rw [show hN h 72 = 8 from L.N 71 rfl]
    exact jI_in (by omega) (by omega) (by omega)
  · rw [n7, n8]
    refine jcall (ct_146 G hb hp hb2 h) ?_
    exact jRe rfl
