/-! contracts: pairs of long numbers -/
def isQ0 (h : mj_H) (q : Nat) : Prop := hK h q = 26 ∧ hR h q 0 = some (q + 1) ∧ hR h q 1 = some (q + 3) ∧ isW0 h (q + 1) ∧ isW0 h (q + 3)
def isQ (h : mj_H) (q : Nat) (z : xI) : Prop := isQ0 h q ∧ isW h (q + 1) z.1 ∧ isW h (q + 3) z.2
theorem isQ0.fr {h h' : mj_H} {q : Nat} (a : isQ0 h q) (e : h'.2 = h.2) : isQ0 h' q := ⟨(fK e _).trans a.1, (fR e _ _).trans a.2.1, (fR e _ _).trans a.2.2.1, a.2.2.2.1.fr e, a.2.2.2.2.fr e⟩
theorem isQ.fr {S : List Nat} {h h' : mj_H} {q : Nat} {z : xI} (a : isQ h q z) (f : FrI S h h') (hs : ∀ x, x ∈ S → x < q + 1 ∨ q + 4 < x) : isQ h' q z := by
  have n : ∀ x, q + 1 ≤ x → x ≤ q + 4 → x ∉ S := fun x h1 h2 hx => by have := hs x hx; omega
  exact ⟨a.1.fr f.1, a.2.1.fr f (n _ (by omega) (by omega)) (n _ (by omega) (by omega)), a.2.2.fr f (n _ (by omega) (by omega)) (n _ (by omega) (by omega))⟩
theorem isW_neg {h : mj_H} {w : Nat} {v : Int} (a : isW h w v) : isW (sI h w 2 (-(hI h w 2))) w (-v) := by
  obtain ⟨a0, n, a1, a2, a3, a4, a5⟩ := a
  refine ⟨a0, n, a1, ?_, ?_, ?_, ?_⟩
  · rw [← a2]
    exact sI_k _ _ (by decide) _
  · rw [sI_at, a3, jI_neg, Int.sign_neg]
  · rw [show (sI h w 2 (-(hI h w 2))).1 (w + 1) = h.1 (w + 1) from sI_a _ (by omega) _ _, Int.natAbs_neg]
    exact a4
  · rw [Int.natAbs_neg]
    exact a5
def trn (z : xI) : xI := if 0 < z.2 ∨ (z.2 = 0 ∧ 0 < z.1) then z else (-z.1, -z.2)
theorem sgn_rng (v : Int) : -1 ≤ v.sign ∧ v.sign ≤ 1 := by
  rcases Int.sign_trichotomy v with z | z | z <;> rw [z] <;> decide
theorem sgn_pos (v : Int) : 0 < v.sign ↔ 0 < v := by
  rcases Int.lt_trichotomy v 0 with z | z | z
  · rw [Int.sign_eq_neg_one_of_neg z]
    omega
  · rw [z]
    decide
  · rw [Int.sign_eq_one_of_pos z]
    omega
theorem sgn_zero (v : Int) : v.sign = 0 ↔ v = 0 := Int.sign_eq_zero_iff_zero
/-- FormHouse$Pair.turn()V; cuts at [30, 31] -/
def cd_162 : List mj_E := [(0, false, .aload_n 0, 1, 0, 0, 0, 0, 0),
  (1, false, .getfield 16, 3, 16, 1, 2, 0, 0),
  (4, false, .getfield 27, 3, 5, 2, 0, 0, 0),
  (7, false, .ifCond .gt 23, 3, 12, 0, 0, 0, 0),
  (10, false, .aload_n 0, 1, 0, 0, 0, 0, 0),
  (11, false, .getfield 16, 3, 16, 1, 2, 0, 0),
  (14, false, .getfield 27, 3, 5, 2, 0, 0, 0),
  (17, false, .ifCond .ne 14, 3, 13, 0, 0, 0, 0),
  (20, false, .aload_n 0, 1, 0, 0, 0, 0, 0),
  (21, false, .getfield 10, 3, 16, 0, 2, 0, 0),
  (24, false, .getfield 27, 3, 5, 2, 0, 0, 0),
  (27, false, .ifCond .le 4, 3, 13, 0, 0, 0, 0),
  (30, true, .return_, 1, 0, 0, 0, 0, 0),
  (31, true, .aload_n 0, 1, 0, 0, 0, 0, 0),
  (32, false, .getfield 10, 3, 16, 0, 2, 0, 0),
  (35, false, .aload_n 0, 1, 0, 0, 0, 0, 0),
  (36, false, .getfield 10, 3, 16, 0, 2, 0, 0),
  (39, false, .getfield 27, 3, 5, 2, 0, 0, 0),
  (42, false, .ineg, 1, 0, 0, 0, 0, 0),
  (43, false, .putfield 27, 3, 5, 2, 0, 0, 0),
  (46, false, .aload_n 0, 1, 0, 0, 0, 0, 0),
  (47, false, .getfield 16, 3, 16, 1, 2, 0, 0),
  (50, false, .aload_n 0, 1, 0, 0, 0, 0, 0),
  (51, false, .getfield 16, 3, 16, 1, 2, 0, 0),
  (54, false, .getfield 27, 3, 5, 2, 0, 0, 0),
  (57, false, .ineg, 1, 0, 0, 0, 0, 0),
  (58, false, .putfield 27, 3, 5, 2, 0, 0, 0),
  (61, false, .return_, 1, 0, 0, 0, 0, 0)]
def cx_162 : mj_X := (0, [], [])
theorem tb_162 : mj_tab (mj_mt 162) cx_162 cd_162 mj_mh [(0, 0, 0), (3017, 0, 0), (1107, 0, 0), (0, 0, 0), (0, 0, 0), (3017, 0, 0), (1107, 0, 0), (0, 0, 0), (0, 0, 0), (3014, 0, 0), (1107, 0, 0), (0, 0, 0), (0, 0, 0), (0, 0, 0), (3014, 0, 0), (0, 0, 0), (3014, 0, 0), (1107, 0, 0), (0, 0, 0), (1107, 0, 0), (0, 0, 0), (3017, 0, 0), (0, 0, 0), (3017, 0, 0), (1107, 0, 0), (0, 0, 0), (1107, 0, 0), (0, 0, 0)] = true := mj_tab_f (by decide +kernel)
theorem ct_162 (G : mj_G) {h : mj_H} {q : Nat} {z : xI} (hq : isQ h q z) : mj_Ct G (mj_mt 162) 0 0 [.ref q] h (fun o h' => o = .returned none ∧ isQ h' q (trn z) ∧ FrI [q + 1, q + 3] h h') := by
  obtain ⟨⟨k0, r0, r1, w0, w1⟩, vx, vy⟩ := hq
  have sx := vx.sg
  have sy := vy.sg
  have s1 := sgn_rng z.1
  have s2 := sgn_rng z.2
  refine mj_Ct_of mj_ok tb_162 rfl rfl (Nat.le_of_ble_eq_true rfl) (fun Run hR => ?_)
  have r30 : (0 < z.2 ∨ (z.2 = 0 ∧ 0 < z.1)) → Run 30 [some (.ref q)] [] h (0, 0) := by
    intro hz
    refine hR 40 12 _ _ _ _ _ _ rfl ?_
    refine ⟨rfl, ?_, FrI.refl _ _⟩
    unfold trn
    rw [if_pos hz]
    exact ⟨⟨k0, r0, r1, w0, w1⟩, vx, vy⟩
  have r31 : ¬ (0 < z.2 ∨ (z.2 = 0 ∧ 0 < z.1)) → Run 31 [some (.ref q)] [] h (0, 0) := by
    intro hz
    refine hR 40 13 _ _ _ _ _ _ rfl ?_
    refine ⟨k0, _, r0, k0, _, r0, w0.1, w0.1, ?_⟩
    have f1 : FrI [q + 1, q + 3] h (sI h (q + 1) 2 (-(hI h (q + 1) 2))) := (FrI.refl _ h).sI (by simp) _ _
    have E1 := f1.1
    have vx1 := isW_neg vx
    have f1' : FrI [q + 1] h (sI h (q + 1) 2 (-(hI h (q + 1) 2))) := (FrI.refl _ h).sI (by simp) _ _
    have vy1 := vy.fr f1' (by first | (simp; done) | (simp; omega) | omega) (by first | (simp; done) | (simp; omega) | omega)
    refine ⟨k0, _, r1, k0, _, r1, w1.1, w1.1, ?_⟩
    have f2' : FrI [q + 3] (sI h (q + 1) 2 (-(hI h (q + 1) 2))) (sI (sI h (q + 1) 2 (-(hI h (q + 1) 2))) (q + 3) 2 (-(hI (sI h (q + 1) 2 (-(hI h (q + 1) 2))) (q + 3) 2))) := (FrI.refl _ _).sI (by simp) _ _
    refine ⟨rfl, ?_, f1.sI (by simp) _ _⟩
    unfold trn
    rw [if_neg hz]
    exact ⟨⟨k0, r0, r1, w0, w1⟩, vx1.fr f2' (by first | (simp; done) | (simp; omega) | omega) (by first | (simp; done) | (simp; omega) | omega), isW_neg vy1⟩
  refine hR 40 0 _ _ _ _ _ _ rfl ?_
  refine ⟨k0, _, r1, w1.1, ?_⟩
  rw [sy]
  refine ⟨fun c => ?_, fun c => ⟨k0, _, r1, w1.1, ?_⟩⟩
  · simp (disch := omega) only [mj_lcm, jI_lt, jI_le, jI_eq, jL_lt, jL_le, jL_eq, jI_lt0, jI_0le, jI_0lt, jI_le0, jI_eq0, jL_eq0, jI_L, jI_add, jI_sub, jI_mul, jI_neg, jL_add, jL_sub, jL_mul, jL_neg, jL_I, jI_div, jI_mod, jL_div, jL_mod] at c
    exact r30 (Or.inl ((sgn_pos _).1 c))
  · simp (disch := omega) only [mj_lcm, jI_lt, jI_le, jI_eq, jL_lt, jL_le, jL_eq, jI_lt0, jI_0le, jI_0lt, jI_le0, jI_eq0, jL_eq0, jI_L, jI_add, jI_sub, jI_mul, jI_neg, jL_add, jL_sub, jL_mul, jL_neg, jL_I, jI_div, jI_mod, jL_div, jL_mod] at c
    rw [sgn_pos] at c
    rw [sy]
    refine ⟨fun c2 => ⟨k0, _, r0, w0.1, ?_⟩, fun c2 => ?_⟩
    · simp (disch := omega) only [mj_lcm, jI_lt, jI_le, jI_eq, jL_lt, jL_le, jL_eq, jI_lt0, jI_0le, jI_0lt, jI_le0, jI_eq0, jL_eq0, jI_L, jI_add, jI_sub, jI_mul, jI_neg, jL_add, jL_sub, jL_mul, jL_neg, jL_I, jI_div, jI_mod, jL_div, jL_mod] at c2
      rw [sgn_zero] at c2
      rw [sx]
      refine ⟨fun c3 => ?_, fun c3 => ?_⟩
      · simp (disch := omega) only [mj_lcm, jI_lt, jI_le, jI_eq, jL_lt, jL_le, jL_eq, jI_lt0, jI_0le, jI_0lt, jI_le0, jI_eq0, jL_eq0, jI_L, jI_add, jI_sub, jI_mul, jI_neg, jL_add, jL_sub, jL_mul, jL_neg, jL_I, jI_div, jI_mod, jL_div, jL_mod] at c3
        have h3 : ¬ 0 < z.1 := fun y => by have := (sgn_pos z.1).2 y; omega
        exact r31 (by omega)
      · simp (disch := omega) only [mj_lcm, jI_lt, jI_le, jI_eq, jL_lt, jL_le, jL_eq, jI_lt0, jI_0le, jI_0lt, jI_le0, jI_eq0, jL_eq0, jI_L, jI_add, jI_sub, jI_mul, jI_neg, jL_add, jL_sub, jL_mul, jL_neg, jL_I, jI_div, jI_mod, jL_div, jL_mod] at c3
        have h3 : 0 < z.1 := (sgn_pos z.1).1 (by omega)
        exact r30 (Or.inr ⟨c2, h3⟩)
    · simp (disch := omega) only [mj_lcm, jI_lt, jI_le, jI_eq, jL_lt, jL_le, jL_eq, jI_lt0, jI_0le, jI_0lt, jI_le0, jI_eq0, jL_eq0, jI_L, jI_add, jI_sub, jI_mul, jI_neg, jL_add, jL_sub, jL_mul, jL_neg, jL_I, jI_div, jI_mod, jL_div, jL_mod] at c2
      rw [sgn_zero] at c2
      exact r31 (by omega)
/-- FormHouse$Mover.sum(LFormHouse$Whole;LFormHouse$Whole;LFormHouse$Whole;LFormHouse$Whole;LFormHouse$Whole;LFormHouse$Reckoner;)V; cuts at [] -/
def cd_165 : List mj_E := [(0, false, .aload 6, 2, 0, 0, 0, 0, 0),
  (2, false, .aload_n 0, 1, 0, 0, 0, 0, 0),
  (3, false, .getfield 10, 3, 15, 0, 2, 0, 0),
  (6, false, .aload_n 2, 1, 0, 0, 0, 0, 0),
  (7, false, .aload_n 3, 1, 0, 0, 0, 0, 0),
  (8, false, .invokevirtual 29, 3, 31, 3, 2, 0, 0),
  (11, false, .aload 6, 2, 0, 0, 0, 0, 0),
  (13, false, .aload_n 0, 1, 0, 0, 0, 0, 0),
  (14, false, .getfield 16, 3, 15, 1, 2, 0, 0),
  (17, false, .aload 4, 2, 0, 0, 0, 0, 0),
  (19, false, .aload 5, 2, 0, 0, 0, 0, 0),
  (21, false, .invokevirtual 29, 3, 31, 3, 2, 0, 0),
  (24, false, .aload 6, 2, 0, 0, 0, 0, 0),
  (26, false, .aload_n 1, 1, 0, 0, 0, 0, 0),
  (27, false, .aload_n 0, 1, 0, 0, 0, 0, 0),
  (28, false, .getfield 10, 3, 15, 0, 2, 0, 0),
  (31, false, .aload_n 0, 1, 0, 0, 0, 0, 0),
  (32, false, .getfield 16, 3, 15, 1, 2, 0, 0),
  (35, false, .invokevirtual 35, 3, 49, 3, 2, 0, 0),
  (38, false, .return_, 1, 0, 0, 0, 0, 0)]
def cx_165 : mj_X := (0, [], [])
theorem tb_165 : mj_tab (mj_mt 165) cx_165 cd_165 mj_mh [(0, 0, 0), (0, 0, 0), (3025, 0, 0), (0, 0, 0), (0, 0, 0), (6086, 0, 0), (0, 0, 0), (0, 0, 0), (3026, 0, 0), (0, 0, 0), (0, 0, 0), (6086, 0, 0), (0, 0, 0), (0, 0, 0), (0, 0, 0), (3025, 0, 0), (0, 0, 0), (3026, 0, 0), (6087, 0, 0), (0, 0, 0)] = true := mj_tab_f (by decide +kernel)
theorem ct_165 (G : mj_G) {h : mj_H} (L : isLay h) {t a x b y : Nat} {va vx vb vy : Int} (ht : isW0 h t) (ha : isW h a va) (hx : isW h x vx) (hb : isW h b vb) (hy : isW h y vy) (hne : (b < 85 ∨ 89 < b) ∧ (y < 85 ∨ 89 < y) ∧ 6 < b ∧ 6 < y) (b1 : (va * vx).natAbs + (vb * vy).natAbs < 4294967296 ^ 1024) : mj_Ct G (mj_mt 165) 0 0 [.ref 85, .ref t, .ref a, .ref x, .ref b, .ref y, .ref 3] h (fun o h' => o = .returned none ∧ isW h' t (va * vx + vb * vy) ∧ FrI [3, 4, 86, 87, 88, 89, t, t + 1] h h') := by
  refine mj_Ct_of mj_ok tb_165 rfl rfl (Nat.le_of_ble_eq_true rfl) (fun Run hR => ?_)
  refine hR 40 0 _ _ _ _ _ _ rfl ?_
  refine ⟨L.K 85 rfl, _, L.R 85 0 _ rfl, L.K 3 rfl, jcallP (ct_31 G (t := 86) (a := a) (b := x) L.Rk (L.W 86 rfl) ha hx (by rw [← Int.natAbs_mul]; omega)) ?_⟩
  rintro o g1 ⟨rfl, v86, f1⟩
  have L1 := L.fr f1.1
  refine ⟨L1.K 85 rfl, _, L1.R 85 1 _ rfl, L1.K 3 rfl, jcallP (ct_31 G (t := 88) (a := b) (b := y) L1.Rk (L1.W 88 rfl) (hb.fr f1 (by first | (simp; done) | (simp; omega) | omega) (by first | (simp; done) | (simp; omega) | omega)) (hy.fr f1 (by first | (simp; done) | (simp; omega) | omega) (by first | (simp; done) | (simp; omega) | omega)) (by rw [← Int.natAbs_mul]; omega)) ?_⟩
  rintro o g2 ⟨rfl, v88, f2⟩
  have L2 := L1.fr f2.1
  refine ⟨L2.K 85 rfl, _, L2.R 85 0 _ rfl, L2.K 85 rfl, _, L2.R 85 1 _ rfl, L2.K 3 rfl, jcallP (ct_49 G (t := t) (a := 86) (b := 88) L2.Rk ((ht.fr f1.1).fr f2.1) (v86.fr f2 (by first | (simp; done) | (simp; omega) | omega) (by first | (simp; done) | (simp; omega) | omega)) v88 b1) ?_⟩
  rintro o g3 ⟨rfl, vt, f3⟩
  exact ⟨rfl, vt, ((f1.trans f2).trans f3).mono (by simp)⟩
/-- whether a family is rather told by the first pair -/
def bfQ (z z' : xI) : Prop := z.2.natAbs < z'.2.natAbs ∨ (z.2.natAbs = z'.2.natAbs ∧ (z.1.natAbs < z'.1.natAbs ∨ (z.1.natAbs = z'.1.natAbs ∧ z'.1.sign < z.1.sign)))
/-- FormHouse$Pair.isBefore(LFormHouse$Pair;)Z; cuts at [12, 28, 53, 57] -/
def cl_166_1 : List mj_E := (50, false, .if_icmp .le 7, 3, 27, 0, 0, 0, 0) ::
  (53, true, .iconst 1, 1, 0, 0, 0, jI 1, 0) ::
  (54, false, .goto 4, 3, 28, 0, 0, 0, 0) ::
  (57, true, .iconst 0, 1, 0, 0, 0, jI 0, 0) ::
  (58, false, .ireturn, 1, 0, 0, 0, 0, 0) ::
  []
def cl_166_0 : List mj_E := (0, false, .aload_n 0, 1, 0, 0, 0, 0, 0) ::
  (1, false, .getfield 16, 3, 16, 1, 2, 0, 0) ::
  (4, false, .aload_n 1, 1, 0, 0, 0, 0, 0) ::
  (5, false, .getfield 16, 3, 16, 1, 2, 0, 0) ::
  (8, false, .invokevirtual 34, 3, 44, 1, 5, 0, 0) ::
  (11, false, .istore_n 2, 1, 0, 0, 0, 0, 0) ::
  (12, true, .iload_n 2, 1, 0, 0, 0, 0, 0) ::
  (13, false, .ifCond .ne 15, 3, 14, 0, 0, 0, 0) ::
  (16, false, .aload_n 0, 1, 0, 0, 0, 0, 0) ::
  (17, false, .getfield 10, 3, 16, 0, 2, 0, 0) ::
  (20, false, .aload_n 1, 1, 0, 0, 0, 0, 0) ::
  (21, false, .getfield 10, 3, 16, 0, 2, 0, 0) ::
  (24, false, .invokevirtual 34, 3, 44, 1, 5, 0, 0) ::
  (27, false, .istore_n 2, 1, 0, 0, 0, 0, 0) ::
  (28, true, .iload_n 2, 1, 0, 0, 0, 0, 0) ::
  (29, false, .ifCond .lt 24, 3, 25, 0, 0, 0, 0) ::
  (32, false, .iload_n 2, 1, 0, 0, 0, 0, 0) ::
  (33, false, .ifCond .ne 24, 3, 27, 0, 0, 0, 0) ::
  (36, false, .aload_n 0, 1, 0, 0, 0, 0, 0) ::
  (37, false, .getfield 10, 3, 16, 0, 2, 0, 0) ::
  (40, false, .getfield 27, 3, 5, 2, 0, 0, 0) ::
  (43, false, .aload_n 1, 1, 0, 0, 0, 0, 0) ::
  (44, false, .getfield 10, 3, 16, 0, 2, 0, 0) ::
  (47, false, .getfield 27, 3, 5, 2, 0, 0, 0) ::
  cl_166_1
def cd_166 : List mj_E := cl_166_0
def cx_166 : mj_X := (4, [], [])
theorem tb_166 : mj_tab (mj_mt 166) cx_166 cd_166 mj_mh [(0, 0, 0), (3017, 0, 0), (0, 0, 0), (3017, 0, 0), (6108, 0, 0), (0, 0, 0), (0, 0, 0), (0, 0, 0), (0, 0, 0), (3014, 0, 0), (0, 0, 0), (3014, 0, 0), (6108, 0, 0), (0, 0, 0), (0, 0, 0), (0, 0, 0), (0, 0, 0), (0, 0, 0), (0, 0, 0), (3014, 0, 0), (1107, 0, 0), (0, 0, 0), (3014, 0, 0), (1107, 0, 0), (0, 0, 0), (0, 0, 0), (0, 0, 0), (0, 0, 0), (0, 0, 0)] = true := mj_tab_f (by decide +kernel)
theorem ct_166 (G : mj_G) {h : mj_H} {q q' : Nat} {z z' : xI} (hq : isQ h q z) (hq' : isQ h q' z') : mj_Ct G (mj_mt 166) 0 0 [.ref q, .ref q'] h (fun o h' => h' = h ∧ ∃ v : Int, o = .returned (some (.int (jI v))) ∧ ((v = 1 ∧ bfQ z z') ∨ (v = 0 ∧ ¬ bfQ z z'))) := by
  obtain ⟨⟨k0, r0, r1, w0, w1⟩, vx, vy⟩ := hq
  obtain ⟨⟨k0', r0', r1', w0', w1'⟩, vx', vy'⟩ := hq'
  have sx := vx.sg
  have sx' := vx'.sg
  have s1 := sgn_rng z.1
  have s2 := sgn_rng z'.1
  refine mj_Ct_of mj_ok tb_166 rfl rfl (Nat.le_of_ble_eq_true rfl) (fun Run hR => ?_)
  have r53 : ∀ x2 : Option Value, bfQ z z' → Run 53 [some (.ref q), some (.ref q'), x2] [] h (0, 0) := by
    intro x2 hb
    refine hR 40 25 _ _ _ _ _ _ rfl ?_
    exact ⟨Or.inr rfl, rfl, 1, rfl, Or.inl ⟨rfl, hb⟩⟩
  have r57 : ∀ x2 : Option Value, ¬ bfQ z z' → Run 57 [some (.ref q), some (.ref q'), x2] [] h (0, 0) := by
    intro x2 hb
    refine hR 40 27 _ _ _ _ _ _ rfl ?_
    exact ⟨Or.inl rfl, rfl, 0, rfl, Or.inr ⟨rfl, hb⟩⟩
  have r28 : ∀ c : Int, (c = -1 ∧ bfQ z z') ∨ (c = 1 ∧ ¬ bfQ z z') ∨ (c = 0 ∧ z.2.natAbs = z'.2.natAbs ∧ z.1.natAbs = z'.1.natAbs) → Run 28 [some (.ref q), some (.ref q'), some (.int (jI c))] [] h (0, 0) := by
    intro c hc
    refine hR 40 14 _ _ _ _ _ _ rfl ?_
    refine ⟨fun c1 => ?_, fun c1 => ⟨fun c2 => ⟨k0, _, r0, w0.1, k0', _, r0', w0'.1, ?_⟩, fun c2 => ?_⟩⟩
    · simp (disch := omega) only [mj_lcm, jI_lt, jI_le, jI_eq, jL_lt, jL_le, jL_eq, jI_lt0, jI_0le, jI_0lt, jI_le0, jI_eq0, jL_eq0, jI_L, jI_add, jI_sub, jI_mul, jI_neg, jL_add, jL_sub, jL_mul, jL_neg, jL_I, jI_div, jI_mod, jL_div, jL_mod] at c1
      rcases hc with ⟨rfl, hb⟩ | ⟨rfl, hb⟩ | ⟨rfl, hb⟩
      · exact r53 _ hb
      · omega
      · omega
    · simp (disch := omega) only [mj_lcm, jI_lt, jI_le, jI_eq, jL_lt, jL_le, jL_eq, jI_lt0, jI_0le, jI_0lt, jI_le0, jI_eq0, jL_eq0, jI_L, jI_add, jI_sub, jI_mul, jI_neg, jL_add, jL_sub, jL_mul, jL_neg, jL_I, jI_div, jI_mod, jL_div, jL_mod] at c1 c2
      rcases hc with ⟨rfl, hb⟩ | ⟨rfl, hb⟩ | ⟨rfl, hb1, hb2⟩
      · omega
      · omega
      · rw [sx, sx']
        refine ⟨fun c3 => ?_, fun c3 => ?_⟩
        · simp (disch := omega) only [mj_lcm, jI_lt, jI_le, jI_eq, jL_lt, jL_le, jL_eq, jI_lt0, jI_0le, jI_0lt, jI_le0, jI_eq0, jL_eq0, jI_L, jI_add, jI_sub, jI_mul, jI_neg, jL_add, jL_sub, jL_mul, jL_neg, jL_I, jI_div, jI_mod, jL_div, jL_mod] at c3
          refine r57 _ ?_
          unfold bfQ
          omega
        · simp (disch := omega) only [mj_lcm, jI_lt, jI_le, jI_eq, jL_lt, jL_le, jL_eq, jI_lt0, jI_0le, jI_0lt, jI_le0, jI_eq0, jL_eq0, jI_L, jI_add, jI_sub, jI_mul, jI_neg, jL_add, jL_sub, jL_mul, jL_neg, jL_I, jI_div, jI_mod, jL_div, jL_mod] at c3
          refine r53 _ ?_
          unfold bfQ
          omega
    · simp (disch := omega) only [mj_lcm, jI_lt, jI_le, jI_eq, jL_lt, jL_le, jL_eq, jI_lt0, jI_0le, jI_0lt, jI_le0, jI_eq0, jL_eq0, jI_L, jI_add, jI_sub, jI_mul, jI_neg, jL_add, jL_sub, jL_mul, jL_neg, jL_I, jI_div, jI_mod, jL_div, jL_mod] at c1 c2
      rcases hc with ⟨rfl, hb⟩ | ⟨rfl, hb⟩ | ⟨rfl, hb⟩
      · omega
      · exact r57 _ hb
      · omega
  have c44 := ct_44 G vy vy'
  have c44x := ct_44 G vx vx'
  refine hR 40 0 _ _ _ _ _ _ rfl ?_
  refine ⟨k0, _, r1, k0', _, r1', w1.1, jcall c44 ?_⟩
  have r12 : ∀ c : Int, c = (if z.2.natAbs < z'.2.natAbs then -1 else if z.2.natAbs = z'.2.natAbs then 0 else 1) → Run 12 [some (.ref q), some (.ref q'), some (.int (jI c))] [] h (0, 0) := by
    intro c hc
    have hcr : -1 ≤ c ∧ c ≤ 1 := by
      rw [hc]
      split
      · decide
      · split <;> decide
    refine hR 40 6 _ _ _ _ _ _ rfl ?_
    refine ⟨fun c1 => ?_, fun c1 => ?_⟩
    · simp (disch := omega) only [mj_lcm, jI_lt, jI_le, jI_eq, jL_lt, jL_le, jL_eq, jI_lt0, jI_0le, jI_0lt, jI_le0, jI_eq0, jL_eq0, jI_L, jI_add, jI_sub, jI_mul, jI_neg, jL_add, jL_sub, jL_mul, jL_neg, jL_I, jI_div, jI_mod, jL_div, jL_mod] at c1
      have he : z.2.natAbs = z'.2.natAbs := by
        by_cases a1 : z.2.natAbs < z'.2.natAbs
        · rw [if_pos a1] at hc
          omega
        · rw [if_neg a1] at hc
          by_cases a2 : z.2.natAbs = z'.2.natAbs
          · exact a2
          · rw [if_neg a2] at hc
            omega
      refine ⟨k0, _, r0, k0', _, r0', w0.1, jcall c44x ?_⟩
      refine r28 _ ?_
      unfold bfQ
      by_cases a1 : z.1.natAbs < z'.1.natAbs
      · rw [if_pos a1]
        exact Or.inl ⟨rfl, by omega⟩
      · rw [if_neg a1]
        by_cases a2 : z.1.natAbs = z'.1.natAbs
        · rw [if_pos a2]
          exact Or.inr (Or.inr ⟨rfl, he, a2⟩)
        · rw [if_neg a2]
          exact Or.inr (Or.inl ⟨rfl, by omega⟩)
    · simp (disch := omega) only [mj_lcm, jI_lt, jI_le, jI_eq, jL_lt, jL_le, jL_eq, jI_lt0, jI_0le, jI_0lt, jI_le0, jI_eq0, jL_eq0, jI_L, jI_add, jI_sub, jI_mul, jI_neg, jL_add, jL_sub, jL_mul, jL_neg, jL_I, jI_div, jI_mod, jL_div, jL_mod] at c1
      refine r28 c ?_
      unfold bfQ
      by_cases a1 : z.2.natAbs < z'.2.natAbs
      · rw [if_pos a1] at hc
        exact Or.inl ⟨hc, by omega⟩
      · rw [if_neg a1] at hc
        by_cases a2 : z.2.natAbs = z'.2.natAbs
        · rw [if_pos a2] at hc
          omega
        · rw [if_neg a2] at hc
          exact Or.inr (Or.inl ⟨hc, by omega⟩)
  exact r12 _ rfl
/-- FormHouse$Pair.like(LFormHouse$Pair;)V; cuts at [] -/
def cd_167 : List mj_E := [(0, false, .aload_n 0, 1, 0, 0, 0, 0, 0),
  (1, false, .getfield 10, 3, 16, 0, 2, 0, 0),
  (4, false, .aload_n 1, 1, 0, 0, 0, 0, 0),
  (5, false, .getfield 10, 3, 16, 0, 2, 0, 0),
  (8, false, .getfield 19, 3, 5, 0, 2, 0, 0),
  (11, false, .aload_n 1, 1, 0, 0, 0, 0, 0),
  (12, false, .getfield 10, 3, 16, 0, 2, 0, 0),
  (15, false, .getfield 23, 3, 5, 1, 0, 0, 0),
  (18, false, .aload_n 1, 1, 0, 0, 0, 0, 0),
  (19, false, .getfield 10, 3, 16, 0, 2, 0, 0),
  (22, false, .getfield 27, 3, 5, 2, 0, 0, 0),
  (25, false, .invokevirtual 30, 3, 39, 3, 5, 0, 0),
  (28, false, .aload_n 0, 1, 0, 0, 0, 0, 0),
  (29, false, .getfield 16, 3, 16, 1, 2, 0, 0),
  (32, false, .aload_n 1, 1, 0, 0, 0, 0, 0),
  (33, false, .getfield 16, 3, 16, 1, 2, 0, 0),
  (36, false, .getfield 19, 3, 5, 0, 2, 0, 0),
  (39, false, .aload_n 1, 1, 0, 0, 0, 0, 0),
  (40, false, .getfield 16, 3, 16, 1, 2, 0, 0),
  (43, false, .getfield 23, 3, 5, 1, 0, 0, 0),
  (46, false, .aload_n 1, 1, 0, 0, 0, 0, 0),
  (47, false, .getfield 16, 3, 16, 1, 2, 0, 0),
  (50, false, .getfield 27, 3, 5, 2, 0, 0, 0),
  (53, false, .invokevirtual 30, 3, 39, 3, 5, 0, 0),
  (56, false, .return_, 1, 0, 0, 0, 0, 0)]
def cx_167 : mj_X := (0, [], [])
theorem tb_167 : mj_tab (mj_mt 167) cx_167 cd_167 mj_mh [(0, 0, 0), (3014, 0, 0), (0, 0, 0), (3014, 0, 0), (1098, 0, 0), (0, 0, 0), (3014, 0, 0), (1102, 0, 0), (0, 0, 0), (3014, 0, 0), (1107, 0, 0), (6113, 0, 0), (0, 0, 0), (3017, 0, 0), (0, 0, 0), (3017, 0, 0), (1098, 0, 0), (0, 0, 0), (3017, 0, 0), (1102, 0, 0), (0, 0, 0), (3017, 0, 0), (1107, 0, 0), (6113, 0, 0), (0, 0, 0)] = true := mj_tab_f (by decide +kernel)
theorem ct_167 (G : mj_G) {h : mj_H} {q q' : Nat} {z : xI} (hq : isQ0 h q) (hq' : isQ h q' z) (hne : q + 4 < q' ∨ q' + 4 < q) : mj_Ct G (mj_mt 167) 0 0 [.ref q, .ref q'] h (fun o h' => o = .returned none ∧ isQ h' q z ∧ FrI [q + 1, q + 2, q + 3, q + 4] h h') := by
  obtain ⟨k0, r0, r1, w0, w1⟩ := hq
  obtain ⟨⟨k0', r0', r1', w0', w1'⟩, vx, vy⟩ := hq'
  refine mj_Ct_of mj_ok tb_167 rfl rfl (Nat.le_of_ble_eq_true rfl) (fun Run hR => ?_)
  obtain ⟨n, e1, e2, e3, e4, c39⟩ := ct_39' G (w := q + 1) (x := q' + 1) w0 vx (by omega)
  refine hR 40 0 _ _ _ _ _ _ rfl ?_
  refine ⟨k0, _, r0, k0', _, r0', e4, _, e3, k0', _, r0', e4, k0', _, r0', e4, w0.1, jcallP c39 ?_⟩
  rintro o g1 ⟨rfl, v1, f1⟩
  have E1 := f1.1
  have vy1 := vy.fr f1 (by first | (simp; done) | (simp; omega) | omega) (by first | (simp; done) | (simp; omega) | omega)
  obtain ⟨n', d1, d2, d3, d4, c39'⟩ := ct_39' G (w := q + 3) (x := q' + 3) (w1.fr E1) vy1 (by omega)
  refine ⟨(fK E1 _).trans k0, _, (fR E1 _ _).trans r1, (fK E1 _).trans k0', _, (fR E1 _ _).trans r1', d4, _, d3, (fK E1 _).trans k0', _, (fR E1 _ _).trans r1', d4, (fK E1 _).trans k0', _, (fR E1 _ _).trans r1', d4, (w1.fr E1).1, jcallP c39' ?_⟩
  rintro o g2 ⟨rfl, v2, f2⟩
  refine ⟨rfl, ⟨(isQ0.fr (isQ0.fr ⟨k0, r0, r1, w0, w1⟩ E1) f2.1), v1.fr f2 (by first | (simp; done) | (simp; omega) | omega) (by first | (simp; done) | (simp; omega) | omega), v2⟩, (f1.trans f2).mono (by simp)⟩
/-- FormHouse$Mover.turnRound([LFormHouse$Whole;)V; cuts at [] -/
def cd_168 : List mj_E := [(0, false, .aload_n 0, 1, 0, 0, 0, 0, 0),
  (1, false, .iconst 3, 1, 0, 0, 0, jI 3, 0),
  (2, false, .aaload, 1, 0, 0, 0, 0, 0),
  (3, false, .aload_n 0, 1, 0, 0, 0, 0, 0),
  (4, false, .iconst 3, 1, 0, 0, 0, jI 3, 0),
  (5, false, .aaload, 1, 0, 0, 0, 0, 0),
  (6, false, .getfield 73, 3, 5, 2, 0, 0, 0),
  (9, false, .ineg, 1, 0, 0, 0, 0, 0),
  (10, false, .putfield 73, 3, 5, 2, 0, 0, 0),
  (13, false, .aload_n 0, 1, 0, 0, 0, 0, 0),
  (14, false, .iconst 4, 1, 0, 0, 0, jI 4, 0),
  (15, false, .aaload, 1, 0, 0, 0, 0, 0),
  (16, false, .aload_n 0, 1, 0, 0, 0, 0, 0),
  (17, false, .iconst 4, 1, 0, 0, 0, jI 4, 0),
  (18, false, .aaload, 1, 0, 0, 0, 0, 0),
  (19, false, .getfield 73, 3, 5, 2, 0, 0, 0),
  (22, false, .ineg, 1, 0, 0, 0, 0, 0),
  (23, false, .putfield 73, 3, 5, 2, 0, 0, 0),
  (26, false, .return_, 1, 0, 0, 0, 0, 0)]
def cx_168 : mj_X := (0, [], [])
theorem tb_168 : mj_tab (mj_mt 168) cx_168 cd_168 mj_mh [(0, 0, 0), (0, 0, 0), (0, 0, 0), (0, 0, 0), (0, 0, 0), (0, 0, 0), (1111, 0, 0), (0, 0, 0), (1111, 0, 0), (0, 0, 0), (0, 0, 0), (0, 0, 0), (0, 0, 0), (0, 0, 0), (0, 0, 0), (1111, 0, 0), (0, 0, 0), (1111, 0, 0), (0, 0, 0)] = true := mj_tab_f (by decide +kernel)
theorem ct_168 (G : mj_G) {h : mj_H} (L : isLay h) {v3 v4 : Int} (h3 : isW h 36 v3) (h4 : isW h 38 v4) : mj_Ct G (mj_mt 168) 0 0 [.ref 29] h (fun o h' => o = .returned none ∧ isW h' 36 (-v3) ∧ isW h' 38 (-v4) ∧ FrI [36, 38] h h') := by
  refine mj_Ct_of mj_ok tb_168 rfl rfl (Nat.le_of_ble_eq_true rfl) (fun Run hR => ?_)
  refine hR 40 0 _ _ _ _ _ _ rfl ?_
  refine ⟨Or.inl (L.K 29 rfl), (L.num 3 (by decide)).1, _, (L.num 3 (by decide)).2, Or.inl (L.K 29 rfl), (L.num 3 (by decide)).1, _, (L.num 3 (by decide)).2, (L.W 36 rfl).1, (L.W 36 rfl).1, ?_⟩
  have f1 : FrI [36] h (sI h 36 2 (-(hI h 36 2))) := (FrI.refl _ h).sI (by simp) _ _
  have L1 := L.fr f1.1
  have a3 := isW_neg h3
  have a4 := h4.fr f1 (by first | (simp; done) | (simp; omega) | omega) (by first | (simp; done) | (simp; omega) | omega)
  refine ⟨Or.inl (L1.K 29 rfl), (L1.num 4 (by decide)).1, _, (L1.num 4 (by decide)).2, Or.inl (L1.K 29 rfl), (L1.num 4 (by decide)).1, _, (L1.num 4 (by decide)).2, (L1.W 38 rfl).1, (L1.W 38 rfl).1, ?_⟩
  have f2 : FrI [38] (sI h 36 2 (-(hI h 36 2))) (sI (sI h 36 2 (-(hI h 36 2))) 38 2 (-(hI (sI h 36 2 (-(hI h 36 2))) 38 2))) := (FrI.refl _ _).sI (by simp) _ _
  exact ⟨rfl, a3.fr f2 (by first | (simp; done) | (simp; omega) | omega) (by first | (simp; done) | (simp; omega) | omega), isW_neg a4, (f1.trans f2).mono (by simp)⟩
