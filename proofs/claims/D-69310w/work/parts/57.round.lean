/-! contracts: the unit of a discriminant -/
theorem isW_abs {h : mj_H} {w : Nat} {v : Int} (a : isW h w v) (hv : v ≠ 0) : isW (sI h w 2 (jI 1)) w v.natAbs := by
  obtain ⟨a0, n, a1, a2, a3, a4, a5⟩ := a
  refine ⟨a0, n, a1, ?_, ?_, ?_, a5⟩
  · rw [← a2]
    exact sI_k _ _ (by decide) _
  · rw [sI_at]
    congr 1
    exact (Int.sign_eq_one_of_pos (by omega)).symm
  · rw [show (sI h w 2 (jI 1)).1 (w + 1) = h.1 (w + 1) from sI_a _ (by omega) _ _]
    exact a4
/-- FormHouse$Units.half()V; cuts at [68] -/
def cl_48_2 : List mj_E := (102, false, .aload_n 0, 1, 0, 0, 0, 0, 0) ::
  (103, false, .getfield 28, 3, 1, 2, 2, 0, 0) ::
  (106, false, .getfield 134, 3, 4, 2, 2, 0, 0) ::
  (109, false, .bipush 7, 2, 0, 0, 0, jI 7, 0) ::
  (111, false, .invokevirtual 137, 3, 50, 2, 1, 0, 0) ::
  (114, false, .return_, 1, 0, 0, 0, 0, 0) ::
  []
def cl_48_1 : List mj_E := (54, false, .aload_n 0, 1, 0, 0, 0, 0, 0) ::
  (55, false, .getfield 28, 3, 1, 2, 2, 0, 0) ::
  (58, false, .getfield 134, 3, 4, 2, 2, 0, 0) ::
  (61, false, .aload_n 0, 1, 0, 0, 0, 0, 0) ::
  (62, false, .getfield 49, 3, 1, 6, 2, 0, 0) ::
  (65, false, .invokevirtual 141, 3, 31, 3, 2, 0, 0) ::
  (68, true, .aload_n 0, 1, 0, 0, 0, 0, 0) ::
  (69, false, .getfield 12, 3, 1, 0, 2, 0, 0) ::
  (72, false, .aload_n 0, 1, 0, 0, 0, 0, 0) ::
  (73, false, .getfield 55, 3, 1, 8, 2, 0, 0) ::
  (76, false, .bipush 6, 2, 0, 0, 0, jI 6, 0) ::
  (78, false, .aaload, 1, 0, 0, 0, 0, 0) ::
  (79, false, .aload_n 0, 1, 0, 0, 0, 0, 0) ::
  (80, false, .getfield 45, 3, 1, 5, 2, 0, 0) ::
  (83, false, .aload_n 0, 1, 0, 0, 0, 0, 0) ::
  (84, false, .getfield 52, 3, 1, 7, 2, 0, 0) ::
  (87, false, .invokevirtual 130, 3, 49, 3, 2, 0, 0) ::
  (90, false, .aload_n 0, 1, 0, 0, 0, 0, 0) ::
  (91, false, .getfield 55, 3, 1, 8, 2, 0, 0) ::
  (94, false, .bipush 6, 2, 0, 0, 0, jI 6, 0) ::
  (96, false, .aaload, 1, 0, 0, 0, 0, 0) ::
  (97, false, .iconst 1, 1, 0, 0, 0, jI 1, 0) ::
  (98, false, .putfield 114, 3, 5, 2, 0, 0, 0) ::
  (101, false, .aload_n 0, 1, 0, 0, 0, 0, 0) ::
  cl_48_2
def cl_48_0 : List mj_E := (0, false, .aload_n 0, 1, 0, 0, 0, 0, 0) ::
  (1, false, .getfield 49, 3, 1, 6, 2, 0, 0) ::
  (4, false, .ldc2_w 74, 3, 0, 0, 0, 0, jL 2) ::
  (7, false, .invokevirtual 63, 3, 21, 1, 5, 0, 0) ::
  (10, false, .aload_n 0, 1, 0, 0, 0, 0, 0) ::
  (11, false, .getfield 12, 3, 1, 0, 2, 0, 0) ::
  (14, false, .aload_n 0, 1, 0, 0, 0, 0, 0) ::
  (15, false, .getfield 45, 3, 1, 5, 2, 0, 0) ::
  (18, false, .aload_n 0, 1, 0, 0, 0, 0, 0) ::
  (19, false, .getfield 28, 3, 1, 2, 2, 0, 0) ::
  (22, false, .getfield 124, 3, 4, 0, 2, 0, 0) ::
  (25, false, .aload_n 0, 1, 0, 0, 0, 0, 0) ::
  (26, false, .getfield 49, 3, 1, 6, 2, 0, 0) ::
  (29, false, .invokevirtual 141, 3, 31, 3, 2, 0, 0) ::
  (32, false, .aload_n 0, 1, 0, 0, 0, 0, 0) ::
  (33, false, .getfield 49, 3, 1, 6, 2, 0, 0) ::
  (36, false, .aload_n 0, 1, 0, 0, 0, 0, 0) ::
  (37, false, .getfield 35, 3, 1, 3, 2, 0, 0) ::
  (40, false, .getfield 144, 3, 6, 1, 1, 0, 0) ::
  (43, false, .invokevirtual 63, 3, 21, 1, 5, 0, 0) ::
  (46, false, .aload_n 0, 1, 0, 0, 0, 0, 0) ::
  (47, false, .getfield 12, 3, 1, 0, 2, 0, 0) ::
  (50, false, .aload_n 0, 1, 0, 0, 0, 0, 0) ::
  (51, false, .getfield 52, 3, 1, 7, 2, 0, 0) ::
  cl_48_1
def cd_48 : List mj_E := cl_48_0
def cx_48 : mj_X := (0, [], [])
theorem tb_48 : mj_tab (mj_mt 48) cx_48 cd_48 mj_mh [(0, 0, 0), (1197, 0, 0), (3068, 0, 0), (3059, 0, 0), (0, 0, 0), (1189, 0, 0), (0, 0, 0), (1196, 0, 0), (0, 0, 0), (1193, 0, 0), (1122, 0, 0), (0, 0, 0), (1197, 0, 0), (3224, 0, 0), (0, 0, 0), (1197, 0, 0), (0, 0, 0), (1194, 0, 0), (1171, 0, 0), (3059, 0, 0), (0, 0, 0), (1189, 0, 0), (0, 0, 0), (1198, 0, 0), (0, 0, 0), (1193, 0, 0), (1129, 0, 0), (0, 0, 0), (1197, 0, 0), (3224, 0, 0), (0, 0, 0), (1189, 0, 0), (0, 0, 0), (1199, 0, 0), (0, 0, 0), (0, 0, 0), (0, 0, 0), (1196, 0, 0), (0, 0, 0), (1198, 0, 0), (3225, 0, 0), (0, 0, 0), (1199, 0, 0), (0, 0, 0), (0, 0, 0), (0, 0, 0), (1109, 0, 0), (0, 0, 0), (0, 0, 0), (1193, 0, 0), (1129, 0, 0), (0, 0, 0), (3229, 0, 0), (0, 0, 0)] = true := mj_tab_f (by decide +kernel)
theorem ct_48 (G : mj_G) {h : mj_H} (L : isLay h) {m : mxI} {f0 : Fm} (hm : isM h 8 m) (hf : isFm h 21 f0) (hb : -4611686018427387904 < f0.2.1 ∧ f0.2.1 < 4611686018427387904) (b1 : (m.1 * 2).natAbs + (m.2.2.1 * f0.2.1).natAbs < 4294967296 ^ 1024) (b2 : m.1 * 2 + m.2.2.1 * f0.2.1 ≠ 0) : mj_Ct G (mj_mt 48) 0 0 [.ref 2] h (fun o h' => o = .returned none ∧ isW h' 42 (m.1 * 2 + m.2.2.1 * f0.2.1).natAbs ∧ isW h' 44 m.2.2.1.natAbs ∧ FrI [3, 4, 23, 24, 25, 26, 27, 28, 42, 43, 44, 45] h h') := by
  obtain ⟨a, b, c, d, hM, wa, wb, wc, ws⟩ := hm
  obtain ⟨m1, ra, rb, rc, rd, r4, r5, g6, hab, hcd, wa0, wb0, wc0, ws0, w9, w11⟩ := hM
  refine mj_Ct_of mj_ok tb_48 rfl rfl (Nat.le_of_ble_eq_true rfl) (fun Run hR => ?_)
  have r68 : ∀ (h' : mj_H), FrI [3, 4, 23, 24, 25, 26, 27, 28] h h' → isW h' 23 (m.1 * 2) → isW h' 27 (m.2.2.1 * f0.2.1) → Run 68 [some (.ref 2)] [] h' (0, 0) := by
    intro h' F v23 v27
    have L0 := L.fr F.1
    refine hR 60 30 _ _ _ _ _ _ rfl ?_
    refine ⟨L0.K 2 rfl, _, L0.R 2 0 _ rfl, L0.K 2 rfl, _, L0.R 2 8 _ rfl, Or.inl (L0.K 29 rfl), (L0.num 6 (by decide)).1, _, (L0.num 6 (by decide)).2, L0.K 2 rfl, _, L0.R 2 5 _ rfl, L0.K 2 rfl, _, L0.R 2 7 _ rfl, L0.K 3 rfl, jcallP (ct_49 G (t := 42) (a := 23) (b := 27) L0.Rk (L0.W 42 rfl) v23 v27 b1) ?_⟩
    rintro o g1 ⟨rfl, v42, f1⟩
    have L1 := L0.fr f1.1
    have E1 := f1.1.trans F.1
    refine ⟨L1.K 2 rfl, _, L1.R 2 8 _ rfl, Or.inl (L1.K 29 rfl), (L1.num 6 (by decide)).1, _, (L1.num 6 (by decide)).2, (L1.W 42 rfl).1, ?_⟩
    have v42' := isW_abs v42 b2
    have f2 : FrI [42] g1 (sI g1 42 2 (jI 1)) := (FrI.refl _ g1).sI (by simp) _ _
    have L2 := L1.fr f2.1
    have E2 := f2.1.trans E1
    have wc2 := ((wc.fr F (by first | (simp; done) | (simp; omega) | omega) (by first | (simp; done) | (simp; omega) | omega)).fr f1 (by first | (simp; done) | (simp; omega) | omega) (by first | (simp; done) | (simp; omega) | omega)).fr f2 (by first | (simp; done) | (simp; omega) | omega) (by first | (simp; done) | (simp; omega) | omega)
    refine ⟨L2.K 2 rfl, _, L2.R 2 2 _ rfl, (fK E2 _).trans m1, _, (fR E2 _ _).trans rc, L2.K 2 rfl, jcallP (ct_50 G (i := 7) L2 wc2 (by decide) (by omega)) ?_⟩
    rintro o g3 ⟨rfl, v44, f3⟩
    refine ⟨rfl, v42'.fr f3 (by first | (simp; done) | (simp; omega) | omega) (by first | (simp; done) | (simp; omega) | omega), v44, ?_⟩
    exact (((F.trans f1).trans f2).trans f3).mono (by simp)
  refine hR 60 0 _ _ _ _ _ _ rfl ?_
  refine ⟨L.K 2 rfl, _, L.R 2 6 _ rfl, (L.W 25 rfl).1, jcallP (ct_21 G (L.W 25 rfl) (v := 2) (by decide) (by decide)) ?_⟩
  rintro o g1 ⟨rfl, t1, f1⟩
  have L1 := L.fr f1.1
  have E1 := f1.1
  refine ⟨L1.K 2 rfl, _, L1.R 2 0 _ rfl, L1.K 2 rfl, _, L1.R 2 5 _ rfl, L1.K 2 rfl, _, L1.R 2 2 _ rfl, (fK E1 _).trans m1, _, (fR E1 _ _).trans ra, L1.K 2 rfl, _, L1.R 2 6 _ rfl, L1.K 3 rfl, jcallP (ct_31 G (t := 23) (a := a) (b := 25) L1.Rk (L1.W 23 rfl) (wa.fr f1 (by first | (simp; done) | (simp; omega) | omega) (by first | (simp; done) | (simp; omega) | omega)) t1 (by rw [← Int.natAbs_mul]; omega)) ?_⟩
  rintro o g2 ⟨rfl, v23, f2⟩
  have L2 := L1.fr f2.1
  have hf2 := hf.fr (f1.trans f2)
  have c21 := ct_21 G (L2.W 25 rfl) (v := f0.2.1) (by omega) (by omega)
  rw [← hf2.2.2.1] at c21
  refine ⟨L2.K 2 rfl, _, L2.R 2 6 _ rfl, L2.K 2 rfl, _, L2.R 2 3 _ rfl, L2.K 21 rfl, (L2.W 25 rfl).1, jcallP c21 ?_⟩
  rintro o g3 ⟨rfl, t3, f3⟩
  have L3 := L2.fr f3.1
  have E3 := (f3.1.trans f2.1).trans E1
  refine ⟨L3.K 2 rfl, _, L3.R 2 0 _ rfl, L3.K 2 rfl, _, L3.R 2 7 _ rfl, L3.K 2 rfl, _, L3.R 2 2 _ rfl, (fK E3 _).trans m1, _, (fR E3 _ _).trans rc, L3.K 2 rfl, _, L3.R 2 6 _ rfl, L3.K 3 rfl, jcallP (ct_31 G (t := 27) (a := c) (b := 25) L3.Rk (L3.W 27 rfl) (((wc.fr f1 (by first | (simp; done) | (simp; omega) | omega) (by first | (simp; done) | (simp; omega) | omega)).fr f2 (by first | (simp; done) | (simp; omega) | omega) (by first | (simp; done) | (simp; omega) | omega)).fr f3 (by first | (simp; done) | (simp; omega) | omega) (by first | (simp; done) | (simp; omega) | omega)) t3 (by rw [← Int.natAbs_mul]; omega)) ?_⟩
  rintro o g4 ⟨rfl, v27, f4⟩
  exact r68 g4 ((((f1.trans f2).trans f3).trans f4).mono (by simp)) ((v23.fr f3 (by first | (simp; done) | (simp; omega) | omega) (by first | (simp; done) | (simp; omega) | omega)).fr f4 (by first | (simp; done) | (simp; omega) | omega) (by first | (simp; done) | (simp; omega) | omega)) v27
theorem sJ_at (h : mj_H) (a k : Nat) (v : Int64) : hJ (sJ h a k v) a k = v := by simp [hJ, sJ, mj_up]
theorem sJ_k (h : mj_H) (a : Nat) {k k' : Nat} (hk : k' ≠ k) (v : Int64) : hJ (sJ h a k v) a k' = hJ h a k' := by simp [hJ, sJ, mj_up, hk]
/-- FormHouse$Reducer.begin(J)V; cuts at [25] -/
def cl_20_1 : List mj_E := (44, false, .lconst 1, 1, 0, 0, 0, 0, jL 1) ::
  (45, false, .ladd, 1, 0, 0, 0, 0, 0) ::
  (46, false, .lmul, 1, 0, 0, 0, 0, 0) ::
  (47, false, .aload_n 0, 1, 0, 0, 0, 0, 0) ::
  (48, false, .getfield 7, 3, 3, 0, 1, 0, 0) ::
  (51, false, .lcmp, 1, 0, 0, 0, 0, 0) ::
  (52, false, .ifCond .gt 16, 3, 38, 0, 0, 0, 0) ::
  (55, false, .aload_n 0, 1, 0, 0, 0, 0, 0) ::
  (56, false, .dup, 1, 0, 0, 0, 0, 0) ::
  (57, false, .getfield 15, 3, 3, 1, 1, 0, 0) ::
  (60, false, .lconst 1, 1, 0, 0, 0, 0, jL 1) ::
  (61, false, .ladd, 1, 0, 0, 0, 0, 0) ::
  (62, false, .putfield 15, 3, 3, 1, 1, 0, 0) ::
  (65, false, .goto (-40), 3, 13, 0, 0, 0, 0) ::
  (68, false, .return_, 1, 0, 0, 0, 0, 0) ::
  []
def cl_20_0 : List mj_E := (0, false, .aload_n 0, 1, 0, 0, 0, 0, 0) ::
  (1, false, .lload_n 1, 1, 0, 0, 0, 0, 0) ::
  (2, false, .putfield 7, 3, 3, 0, 1, 0, 0) ::
  (5, false, .aload_n 0, 1, 0, 0, 0, 0, 0) ::
  (6, false, .aload_n 0, 1, 0, 0, 0, 0, 0) ::
  (7, false, .getfield 7, 3, 3, 0, 1, 0, 0) ::
  (10, false, .lconst 0, 1, 0, 0, 0, 0, jL 0) ::
  (11, false, .lcmp, 1, 0, 0, 0, 0, 0) ::
  (12, false, .ifCond .ge 9, 3, 11, 0, 0, 0, 0) ::
  (15, false, .ldc2_w 13, 3, 0, 0, 0, 0, jL (-1)) ::
  (18, false, .goto 4, 3, 12, 0, 0, 0, 0) ::
  (21, false, .lconst 0, 1, 0, 0, 0, 0, jL 0) ::
  (22, false, .putfield 15, 3, 3, 1, 1, 0, 0) ::
  (25, true, .aload_n 0, 1, 0, 0, 0, 0, 0) ::
  (26, false, .getfield 7, 3, 3, 0, 1, 0, 0) ::
  (29, false, .lconst 0, 1, 0, 0, 0, 0, jL 0) ::
  (30, false, .lcmp, 1, 0, 0, 0, 0, 0) ::
  (31, false, .ifCond .le 37, 3, 38, 0, 0, 0, 0) ::
  (34, false, .aload_n 0, 1, 0, 0, 0, 0, 0) ::
  (35, false, .getfield 15, 3, 3, 1, 1, 0, 0) ::
  (38, false, .lconst 1, 1, 0, 0, 0, 0, jL 1) ::
  (39, false, .ladd, 1, 0, 0, 0, 0, 0) ::
  (40, false, .aload_n 0, 1, 0, 0, 0, 0, 0) ::
  (41, false, .getfield 15, 3, 3, 1, 1, 0, 0) ::
  cl_20_1
def cd_20 : List mj_E := cl_20_0
def cx_20 : mj_X := (0, [], [])
theorem tb_20 : mj_tab (mj_mt 20) cx_20 cd_20 mj_mh [(0, 0, 0), (0, 0, 0), (1070, 0, 0), (0, 0, 0), (0, 0, 0), (1070, 0, 0), (0, 0, 0), (0, 0, 0), (0, 0, 0), (3058, 0, 0), (0, 0, 0), (0, 0, 0), (1077, 0, 0), (0, 0, 0), (1070, 0, 0), (0, 0, 0), (0, 0, 0), (0, 0, 0), (0, 0, 0), (1077, 0, 0), (0, 0, 0), (0, 0, 0), (0, 0, 0), (1077, 0, 0), (0, 0, 0), (0, 0, 0), (0, 0, 0), (0, 0, 0), (1070, 0, 0), (0, 0, 0), (0, 0, 0), (0, 0, 0), (0, 0, 0), (1077, 0, 0), (0, 0, 0), (0, 0, 0), (1077, 0, 0), (0, 0, 0), (0, 0, 0)] = true := mj_tab_f (by decide +kernel)
theorem ct_20 (G : mj_G) {h : mj_H} (hk : hK h 7 = 13) {d : Int} (hd : -1099511627776 < d ∧ d < 1099511627776) (hd0 : d ≠ 0) : mj_Ct G (mj_mt 20) 0 0 [.ref 7, .long (jL d)] h (fun o h' => o = .returned none ∧ ∃ w, isRr h' 7 d w ∧ ((d < 0 ∧ w = -1) ∨ (0 < d ∧ isWd d w)) ∧ Fr (fun a => a = 7) noT h h') := by
  refine mj_Ct_of mj_ok tb_20 rfl rfl (Nat.le_of_ble_eq_true rfl) (fun Run hR => ?_)
  have loop : ∀ (n : Nat) (w : Int) (h' : mj_H), (1048577 - w).toNat ≤ n → ((d < 0 ∧ w = -1) ∨ (0 < d ∧ 0 ≤ w ∧ w * w ≤ d)) → isRr h' 7 d w → Fr (fun a => a = 7) noT h h' → Run 25 [some (.ref 7), some (.long (jL d)), none] [] h' (0, 0) := by
    intro n
    induction n with
    | zero =>
      intro w h' hn hw hr F
      exfalso
      have : (1048577 : Int) * 1048577 ≤ w * w := sq_le (by decide) (by omega)
      omega
    | succ n ih =>
      intro w h' hn hw hr F
      have hwb : w < 1048577 := by
        rcases Int.lt_or_le w 1048577 with g | g
        · exact g
        · have : (1048577 : Int) * 1048577 ≤ w * w := sq_le (by decide) g
          omega
      obtain ⟨k1, r0, r1⟩ := hr
      refine hR 40 13 _ _ _ _ _ _ rfl ?_
      refine ⟨k1, ?_⟩
      rw [r0]
      refine ⟨fun c => ?_, fun c => ⟨k1, k1, k1, ?_⟩⟩
      · simp (disch := omega) only [mj_lcm, jI_lt, jI_le, jI_eq, jL_lt, jL_le, jL_eq, jI_lt0, jI_0le, jI_0lt, jI_le0, jI_eq0, jL_eq0, jI_L, jI_add, jI_sub, jI_mul, jI_neg, jL_add, jL_sub, jL_mul, jL_neg, jL_I, jI_div, jI_mod, jL_div, jL_mod] at c
        exact ⟨rfl, w, ⟨k1, r0, r1⟩, Or.inl (by omega), F⟩
      · simp (disch := omega) only [mj_lcm, jI_lt, jI_le, jI_eq, jL_lt, jL_le, jL_eq, jI_lt0, jI_0le, jI_0lt, jI_le0, jI_eq0, jL_eq0, jI_L, jI_add, jI_sub, jI_mul, jI_neg, jL_add, jL_sub, jL_mul, jL_neg, jL_I, jI_div, jI_mod, jL_div, jL_mod] at c
        rw [r0, r1, jL_add, jL_mul]
        have hsq : (w + 1) * (w + 1) ≤ 1048577 * 1048577 := by
          rcases Int.lt_or_le (w + 1) 0 with g | g
          · omega
          · exact sq_le g (by omega)
        have hsq0 := sqn (w + 1)
        refine ⟨fun c2 => ?_, fun c2 => ⟨k1, k1, ?_⟩⟩
        · simp (disch := omega) only [mj_lcm, jI_lt, jI_le, jI_eq, jL_lt, jL_le, jL_eq, jI_lt0, jI_0le, jI_0lt, jI_le0, jI_eq0, jL_eq0, jI_L, jI_add, jI_sub, jI_mul, jI_neg, jL_add, jL_sub, jL_mul, jL_neg, jL_I, jI_div, jI_mod, jL_div, jL_mod] at c2
          exact ⟨rfl, w, ⟨k1, r0, r1⟩, Or.inr ⟨by omega, by omega, by omega, c2⟩, F⟩
        · simp (disch := omega) only [mj_lcm, jI_lt, jI_le, jI_eq, jL_lt, jL_le, jL_eq, jI_lt0, jI_0le, jI_0lt, jI_le0, jI_eq0, jL_eq0, jI_L, jI_add, jI_sub, jI_mul, jI_neg, jL_add, jL_sub, jL_mul, jL_neg, jL_I, jI_div, jI_mod, jL_div, jL_mod] at c2
          rw [r1, jL_add]
          refine ih (w + 1) _ (by omega) (Or.inr ⟨by omega, by omega, by omega⟩) ⟨k1, ?_, sJ_at _ _ _ _⟩ (F.sJ rfl _ _)
          rw [← r0]
          exact sJ_k _ _ (by decide) _
  have start : ∀ w : Int, ((d < 0 ∧ w = -1) ∨ (0 < d ∧ 0 ≤ w ∧ w * w ≤ d)) → Run 25 [some (.ref 7), some (.long (jL d)), none] [] (sJ (sJ h 7 0 (jL d)) 7 1 (jL w)) (0, 0) := by
    intro w hw
    refine loop (1048577 - w).toNat w _ (Nat.le_refl _) hw ⟨hk, ?_, sJ_at _ _ _ _⟩ (((Fr.refl (fun a => a = 7) noT h).sJ rfl _ _).sJ rfl _ _)
    exact (sJ_k _ _ (by decide) _).trans (sJ_at _ _ _ _)
  refine hR 40 0 _ _ _ _ _ _ rfl ?_
  refine ⟨hk, hk, ?_⟩
  rw [sJ_at]
  refine ⟨fun c => ⟨hk, ?_⟩, fun c => ⟨hk, ?_⟩⟩
  · simp (disch := omega) only [mj_lcm, jI_lt, jI_le, jI_eq, jL_lt, jL_le, jL_eq, jI_lt0, jI_0le, jI_0lt, jI_le0, jI_eq0, jL_eq0, jI_L, jI_add, jI_sub, jI_mul, jI_neg, jL_add, jL_sub, jL_mul, jL_neg, jL_I, jI_div, jI_mod, jL_div, jL_mod] at c
    exact start 0 (Or.inr ⟨by omega, by decide, by omega⟩)
  · simp (disch := omega) only [mj_lcm, jI_lt, jI_le, jI_eq, jL_lt, jL_le, jL_eq, jI_lt0, jI_0le, jI_0lt, jI_le0, jI_eq0, jL_eq0, jI_L, jI_add, jI_sub, jI_mul, jI_neg, jL_add, jL_sub, jL_mul, jL_neg, jL_I, jI_div, jI_mod, jL_div, jL_mod] at c
    exact start (-1) (Or.inl ⟨by omega, rfl⟩)
/-! once round the ring of the principal form -/
abbrev xI : Type := Int × Int
def upX (b : Int) (g : Fm) (m : mxI) (x : xI) : xI := if g.1 = -1 ∧ x.2 = 0 then ((m.1 * 2 + m.2.2.1 * b).natAbs, m.2.2.1.natAbs) else x
def okX (b : Int) (g : Fm) (m : mxI) (x : xI) : Prop := g.1 = -1 → x.2 = 0 → (m.1 * 2).natAbs + (m.2.2.1 * b).natAbs < 4294967296 ^ 1024 ∧ m.1 * 2 + m.2.2.1 * b ≠ 0
def trR (d w : Int) (f0 : Fm) : Nat → Fm → mxI → xI → Prop
  | 0, _, _, _ => False
  | n + 1, g, m, x => okF g ∧ bdM (nkE d w g.2.1 g.2.2) m ∧ (-9223372036854775808 < nkE d w g.2.1 g.2.2 ∧ nkE d w g.2.1 g.2.2 < 9223372036854775808) ∧ okF (nx d w g) ∧ okX f0.2.1 (nx d w g) (stM (nkE d w g.2.1 g.2.2) m) x ∧ ((n = 0 ∧ nx d w g = f0) ∨ (nx d w g ≠ f0 ∧ trR d w f0 n (nx d w g) (stM (nkE d w g.2.1 g.2.2) m) (upX f0.2.1 (nx d w g) (stM (nkE d w g.2.1 g.2.2) m) x)))
def itX (d w b : Int) : Nat → Fm → mxI → xI → xI
  | 0, _, _, x => x
  | n + 1, g, m, x => itX d w b n (nx d w g) (stM (nkE d w g.2.1 g.2.2) m) (upX b (nx d w g) (stM (nkE d w g.2.1 g.2.2) m) x)
abbrev inU (a : Nat) : Prop := a = 2 ∨ a = 3 ∨ a = 4 ∨ (8 ≤ a ∧ a ≤ 28) ∨ (30 ≤ a ∧ a ≤ 33) ∨ (42 ≤ a ∧ a ≤ 45)
abbrev tM8 (a : Nat) : Prop := a = 8
/-- FormHouse$Units.goRound()V; cuts at [16, 32, 50, 71, 139, 163] -/
def cl_23_4 : List mj_E := (184, false, .getfield 127, 3, 4, 3, 2, 0, 0) ::
  (187, false, .invokevirtual 130, 3, 49, 3, 2, 0, 0) ::
  (190, false, .aload_n 0, 1, 0, 0, 0, 0, 0) ::
  (191, false, .getfield 55, 3, 1, 8, 2, 0, 0) ::
  (194, false, .iconst 0, 1, 0, 0, 0, jI 0, 0) ::
  (195, false, .aaload, 1, 0, 0, 0, 0, 0) ::
  (196, false, .iconst 1, 1, 0, 0, 0, jI 1, 0) ::
  (197, false, .putfield 114, 3, 5, 2, 0, 0, 0) ::
  (200, false, .aload_n 0, 1, 0, 0, 0, 0, 0) ::
  (201, false, .aload_n 0, 1, 0, 0, 0, 0, 0) ::
  (202, false, .getfield 28, 3, 1, 2, 2, 0, 0) ::
  (205, false, .getfield 134, 3, 4, 2, 2, 0, 0) ::
  (208, false, .iconst 1, 1, 0, 0, 0, jI 1, 0) ::
  (209, false, .invokevirtual 137, 3, 50, 2, 1, 0, 0) ::
  (212, false, .return_, 1, 0, 0, 0, 0, 0) ::
  []
def cl_23_3 : List mj_E := (135, false, .aload_n 0, 1, 0, 0, 0, 0, 0) ::
  (136, false, .invokevirtual 117, 3, 48, 0, 1, 0, 0) ::
  (139, true, .aload_n 0, 1, 0, 0, 0, 0, 0) ::
  (140, false, .getfield 39, 3, 1, 4, 2, 0, 0) ::
  (143, false, .aload_n 0, 1, 0, 0, 0, 0, 0) ::
  (144, false, .getfield 35, 3, 1, 3, 2, 0, 0) ::
  (147, false, .invokevirtual 120, 3, 51, 1, 6, 0, 0) ::
  (150, false, .ifCond .ne 7, 3, 82, 0, 0, 0, 0) ::
  (153, false, .iconst 1, 1, 0, 0, 0, jI 1, 0) ::
  (154, false, .goto 4, 3, 83, 0, 0, 0, 0) ::
  (157, false, .iconst 0, 1, 0, 0, 0, jI 0, 0) ::
  (158, false, .istore 5, 2, 0, 0, 0, 0, 0) ::
  (160, false, .goto (-89), 3, 42, 0, 0, 0, 0) ::
  (163, true, .aload_n 0, 1, 0, 0, 0, 0, 0) ::
  (164, false, .getfield 12, 3, 1, 0, 2, 0, 0) ::
  (167, false, .aload_n 0, 1, 0, 0, 0, 0, 0) ::
  (168, false, .getfield 55, 3, 1, 8, 2, 0, 0) ::
  (171, false, .iconst 0, 1, 0, 0, 0, jI 0, 0) ::
  (172, false, .aaload, 1, 0, 0, 0, 0, 0) ::
  (173, false, .aload_n 0, 1, 0, 0, 0, 0, 0) ::
  (174, false, .getfield 28, 3, 1, 2, 2, 0, 0) ::
  (177, false, .getfield 124, 3, 4, 0, 2, 0, 0) ::
  (180, false, .aload_n 0, 1, 0, 0, 0, 0, 0) ::
  (181, false, .getfield 28, 3, 1, 2, 2, 0, 0) ::
  cl_23_4
def cl_23_2 : List mj_E := (84, false, .aload_n 0, 1, 0, 0, 0, 0, 0) ::
  (85, false, .getfield 39, 3, 1, 4, 2, 0, 0) ::
  (88, false, .invokevirtual 101, 3, 27, 1, 3, 0, 0) ::
  (91, false, .aload_n 0, 1, 0, 0, 0, 0, 0) ::
  (92, false, .getfield 12, 3, 1, 0, 2, 0, 0) ::
  (95, false, .invokevirtual 105, 3, 30, 2, 4, 0, 0) ::
  (98, false, .aload_n 0, 1, 0, 0, 0, 0, 0) ::
  (99, false, .dup, 1, 0, 0, 0, 0, 0) ::
  (100, false, .getfield 66, 3, 1, 9, 0, 0, 0) ::
  (103, false, .iconst 1, 1, 0, 0, 0, jI 1, 0) ::
  (104, false, .iadd, 1, 0, 0, 0, 0, 0) ::
  (105, false, .putfield 66, 3, 1, 9, 0, 0, 0) ::
  (108, false, .aload_n 0, 1, 0, 0, 0, 0, 0) ::
  (109, false, .getfield 39, 3, 1, 4, 2, 0, 0) ::
  (112, false, .getfield 109, 3, 6, 0, 1, 0, 0) ::
  (115, false, .ldc2_w 112, 3, 0, 0, 0, 0, jL (-1)) ::
  (118, false, .lcmp, 1, 0, 0, 0, 0, 0) ::
  (119, false, .ifCond .ne 20, 3, 74, 0, 0, 0, 0) ::
  (122, false, .aload_n 0, 1, 0, 0, 0, 0, 0) ::
  (123, false, .getfield 55, 3, 1, 8, 2, 0, 0) ::
  (126, false, .bipush 7, 2, 0, 0, 0, jI 7, 0) ::
  (128, false, .aaload, 1, 0, 0, 0, 0, 0) ::
  (129, false, .getfield 114, 3, 5, 2, 0, 0, 0) ::
  (132, false, .ifCond .ne 7, 3, 74, 0, 0, 0, 0) ::
  cl_23_3
def cl_23_1 : List mj_E := (38, false, .lload_n 3, 1, 0, 0, 0, 0, 0) ::
  (39, false, .lload_n 3, 1, 0, 0, 0, 0, 0) ::
  (40, false, .lmul, 1, 0, 0, 0, 0, 0) ::
  (41, false, .lload_n 1, 1, 0, 0, 0, 0, 0) ::
  (42, false, .lsub, 1, 0, 0, 0, 0, 0) ::
  (43, false, .ldc2_w 79, 3, 0, 0, 0, 0, jL 4) ::
  (46, false, .ldiv, 1, 0, 0, 0, 0, 0) ::
  (47, false, .invokevirtual 92, 3, 24, 3, 6, 0, 0) ::
  (50, true, .aload_n 0, 1, 0, 0, 0, 0, 0) ::
  (51, false, .getfield 39, 3, 1, 4, 2, 0, 0) ::
  (54, false, .aload_n 0, 1, 0, 0, 0, 0, 0) ::
  (55, false, .getfield 35, 3, 1, 3, 2, 0, 0) ::
  (58, false, .invokevirtual 94, 3, 25, 1, 6, 0, 0) ::
  (61, false, .aload_n 0, 1, 0, 0, 0, 0, 0) ::
  (62, false, .getfield 28, 3, 1, 2, 2, 0, 0) ::
  (65, false, .invokevirtual 98, 3, 26, 0, 4, 0, 0) ::
  (68, false, .iconst 1, 1, 0, 0, 0, jI 1, 0) ::
  (69, false, .istore 5, 2, 0, 0, 0, 0, 0) ::
  (71, true, .iload 5, 2, 0, 0, 0, 0, 0) ::
  (73, false, .ifCond .eq 90, 3, 85, 0, 0, 0, 0) ::
  (76, false, .aload_n 0, 1, 0, 0, 0, 0, 0) ::
  (77, false, .getfield 28, 3, 1, 2, 2, 0, 0) ::
  (80, false, .aload_n 0, 1, 0, 0, 0, 0, 0) ::
  (81, false, .getfield 21, 3, 1, 1, 2, 0, 0) ::
  cl_23_2
def cl_23_0 : List mj_E := (0, false, .aload_n 0, 1, 0, 0, 0, 0, 0) ::
  (1, false, .getfield 21, 3, 1, 1, 2, 0, 0) ::
  (4, false, .getfield 85, 3, 3, 0, 1, 0, 0) ::
  (7, false, .lstore_n 1, 1, 0, 0, 0, 0, 0) ::
  (8, false, .aload_n 0, 1, 0, 0, 0, 0, 0) ::
  (9, false, .getfield 21, 3, 1, 1, 2, 0, 0) ::
  (12, false, .getfield 89, 3, 3, 1, 1, 0, 0) ::
  (15, false, .lstore_n 3, 1, 0, 0, 0, 0, 0) ::
  (16, true, .lload_n 3, 1, 0, 0, 0, 0, 0) ::
  (17, false, .lload_n 1, 1, 0, 0, 0, 0, 0) ::
  (18, false, .lsub, 1, 0, 0, 0, 0, 0) ::
  (19, false, .ldc2_w 74, 3, 0, 0, 0, 0, jL 2) ::
  (22, false, .lrem, 1, 0, 0, 0, 0, 0) ::
  (23, false, .lconst 0, 1, 0, 0, 0, 0, jL 0) ::
  (24, false, .lcmp, 1, 0, 0, 0, 0, 0) ::
  (25, false, .ifCond .eq 7, 3, 20, 0, 0, 0, 0) ::
  (28, false, .lload_n 3, 1, 0, 0, 0, 0, 0) ::
  (29, false, .lconst 1, 1, 0, 0, 0, 0, jL 1) ::
  (30, false, .lsub, 1, 0, 0, 0, 0, 0) ::
  (31, false, .lstore_n 3, 1, 0, 0, 0, 0, 0) ::
  (32, true, .aload_n 0, 1, 0, 0, 0, 0, 0) ::
  (33, false, .getfield 35, 3, 1, 3, 2, 0, 0) ::
  (36, false, .lconst 1, 1, 0, 0, 0, 0, jL 1) ::
  (37, false, .lload_n 3, 1, 0, 0, 0, 0, 0) ::
  cl_23_1
def cd_23 : List mj_E := cl_23_0
def cx_23 : mj_X := (0, [], [])
theorem tb_23 : mj_tab (mj_mt 23) cx_23 cd_23 mj_mh [(0, 0, 0), (1191, 0, 0), (1073, 0, 0), (0, 0, 0), (0, 0, 0), (1191, 0, 0), (1079, 0, 0), (0, 0, 0), (0, 0, 0), (0, 0, 0), (0, 0, 0), (3068, 0, 0), (0, 0, 0), (0, 0, 0), (0, 0, 0), (0, 0, 0), (0, 0, 0), (0, 0, 0), (0, 0, 0), (0, 0, 0), (0, 0, 0), (1194, 0, 0), (0, 0, 0), (0, 0, 0), (0, 0, 0), (0, 0, 0), (0, 0, 0), (0, 0, 0), (0, 0, 0), (3073, 0, 0), (0, 0, 0), (3074, 0, 0), (0, 0, 0), (1195, 0, 0), (0, 0, 0), (1194, 0, 0), (3078, 0, 0), (0, 0, 0), (1193, 0, 0), (3083, 0, 0), (0, 0, 0), (0, 0, 0), (0, 0, 0), (0, 0, 0), (0, 0, 0), (1193, 0, 0), (0, 0, 0), (1191, 0, 0), (0, 0, 0), (1195, 0, 0), (3088, 0, 0), (0, 0, 0), (1189, 0, 0), (3101, 0, 0), (0, 0, 0), (0, 0, 0), (1201, 0, 0), (0, 0, 0), (0, 0, 0), (1201, 0, 0), (0, 0, 0), (1195, 0, 0), (1161, 0, 0), (3219, 0, 0), (0, 0, 0), (0, 0, 0), (0, 0, 0), (1199, 0, 0), (0, 0, 0), (0, 0, 0), (1109, 0, 0), (0, 0, 0), (0, 0, 0), (3220, 0, 0), (0, 0, 0), (1195, 0, 0), (0, 0, 0), (1194, 0, 0), (3234, 0, 0), (0, 0, 0), (0, 0, 0), (0, 0, 0), (0, 0, 0), (0, 0, 0), (0, 0, 0), (0, 0, 0), (1189, 0, 0), (0, 0, 0), (1199, 0, 0), (0, 0, 0), (0, 0, 0), (0, 0, 0), (1193, 0, 0), (1122, 0, 0), (0, 0, 0), (1193, 0, 0), (1133, 0, 0), (3225, 0, 0), (0, 0, 0), (1199, 0, 0), (0, 0, 0), (0, 0, 0), (0, 0, 0), (1109, 0, 0), (0, 0, 0), (0, 0, 0), (1193, 0, 0), (1129, 0, 0), (0, 0, 0), (3229, 0, 0), (0, 0, 0)] = true := mj_tab_f (by decide +kernel)
theorem ct_23 (G : mj_G) {h : mj_H} (L : isLay h) {d w : Int} {N : Nat} (hr : isRr h 7 d w) (hm : isM0 h 8) (h6 : isW h 42 0) (h7 : isW h 44 0) (hd : 0 < d ∧ d < 1099511627776) (hw : 0 ≤ w ∧ w < 2147483648) {f0 : Fm} (hf0 : f0 = (1, (if (w - d).tmod 2 = 0 then w else w - 1), ((if (w - d).tmod 2 = 0 then w else w - 1) * (if (w - d).tmod 2 = 0 then w else w - 1) - d).tdiv 4)) (ho : okF f0) (ht : trR d w f0 N f0 (1, 0, 0, 1) (0, 0)) (hb : (itM d w N f0 (1, 0, 0, 1)).1.natAbs + (itM d w N f0 (1, 0, 0, 1)).2.2.2.natAbs < 4294967296 ^ 1024) (hz : (itM d w N f0 (1, 0, 0, 1)).1 + (itM d w N f0 (1, 0, 0, 1)).2.2.2 ≠ 0) : mj_Ct G (mj_mt 23) 0 0 [.ref 2] h (fun o h' => o = .returned none ∧ isW h' 30 ((itM d w N f0 (1, 0, 0, 1)).1 + (itM d w N f0 (1, 0, 0, 1)).2.2.2).natAbs ∧ isW h' 32 (itM d w N f0 (1, 0, 0, 1)).2.2.1.natAbs ∧ isW h' 42 (itX d w f0.2.1 N f0 (1, 0, 0, 1) (0, 0)).1 ∧ isW h' 44 (itX d w f0.2.1 N f0 (1, 0, 0, 1) (0, 0)).2 ∧ isM0 h' 8 ∧ Fr inU tM8 h h') := by
  refine mj_Ct_of mj_ok tb_23 rfl rfl (Nat.le_of_ble_eq_true rfl) (fun Run hR => ?_)
  have ht8 : ∀ a, tM8 a → a = 8 ∨ a = 99 ∨ a = 114 ∨ a = 73 := fun a z => Or.inl z
  generalize hMN : itM d w N f0 (1, 0, 0, 1) = mN at *
  generalize hXN : itX d w f0.2.1 N f0 (1, 0, 0, 1) (0, 0) = xN at *
  have r163 : ∀ (h' : mj_H) (x1 x2 x3 x4 x5 : Option Value), Fr inU tM8 h h' → isM h' 8 mN → isW h' 42 xN.1 → isW h' 44 xN.2 → Run 163 [some (.ref 2), x1, x2, x3, x4, x5] [] h' (0, 0) := by
    intro h' x1 x2 x3 x4 x5 F hm' w6 w7
    have L0 := L.F F ht8
    have hm0 := hm'
    obtain ⟨a, b, c, e, hM, wa, wb, wc, ws⟩ := hm0
    obtain ⟨m1, ra, rb, rc, rd, r4, r5, g6, hab, hcd, -⟩ := hM
    refine hR 60 85 _ _ _ _ _ _ rfl ?_
    refine ⟨L0.K 2 rfl, _, L0.R 2 0 _ rfl, L0.K 2 rfl, _, L0.R 2 8 _ rfl, Or.inl (L0.K 29 rfl), (L0.num 0 (by decide)).1, _, (L0.num 0 (by decide)).2, L0.K 2 rfl, _, L0.R 2 2 _ rfl, m1, _, ra, L0.K 2 rfl, _, L0.R 2 2 _ rfl, m1, _, rd, L0.K 3 rfl, jcallP (ct_49 G (t := 30) (a := a) (b := e) L0.Rk (L0.W 30 rfl) wa ws hb) ?_⟩
    rintro o g1 ⟨rfl, v30, f1⟩
    have L1 := L0.fr f1.1
    refine ⟨L1.K 2 rfl, _, L1.R 2 8 _ rfl, Or.inl (L1.K 29 rfl), (L1.num 0 (by decide)).1, _, (L1.num 0 (by decide)).2, (L1.W 30 rfl).1, ?_⟩
    have v30' := isW_abs v30 hz
    have f2 : FrI [30] g1 (sI g1 30 2 (jI 1)) := (FrI.refl _ g1).sI (by simp) _ _
    have L2 := L1.fr f2.1
    have E2 := f2.1.trans f1.1
    have wc2 := (wc.fr f1 (by first | (simp; done) | (simp; omega) | omega) (by first | (simp; done) | (simp; omega) | omega)).fr f2 (by first | (simp; done) | (simp; omega) | omega) (by first | (simp; done) | (simp; omega) | omega)
    refine ⟨L2.K 2 rfl, _, L2.R 2 2 _ rfl, (fK E2 _).trans m1, _, (fR E2 _ _).trans rc, L2.K 2 rfl, jcallP (ct_50 G (i := 1) L2 wc2 (by decide) (by omega)) ?_⟩
    rintro o g3 ⟨rfl, v32, f3⟩
    have F3 : Fr inU tM8 h g3 := ((F.trans (f1.to _ (by simp; omega))).trans (f2.to _ (by simp; omega))).trans (f3.to _ (by simp; omega))
    refine ⟨rfl, v30'.fr f3 (by first | (simp; done) | (simp; omega) | omega) (by first | (simp; done) | (simp; omega) | omega), v32, ((w6.fr f1 (by first | (simp; done) | (simp; omega) | omega) (by first | (simp; done) | (simp; omega) | omega)).fr f2 (by first | (simp; done) | (simp; omega) | omega) (by first | (simp; done) | (simp; omega) | omega)).fr f3 (by first | (simp; done) | (simp; omega) | omega) (by first | (simp; done) | (simp; omega) | omega), ((w7.fr f1 (by first | (simp; done) | (simp; omega) | omega) (by first | (simp; done) | (simp; omega) | omega)).fr f2 (by first | (simp; done) | (simp; omega) | omega) (by first | (simp; done) | (simp; omega) | omega)).fr f3 (by first | (simp; done) | (simp; omega) | omega) (by first | (simp; done) | (simp; omega) | omega), ?_, F3⟩
    obtain ⟨a, b, c, e, hM, -⟩ := hm'
    exact ⟨a, b, c, e, hM.F ((f1.to (S := fun _ => True) noT (fun _ _ => trivial)).trans ((f2.to _ (fun _ _ => trivial)).trans (f3.to _ (fun _ _ => trivial)))) (fun _ _ z => z)⟩
  have r71e : ∀ (h' : mj_H) (x1 x2 x3 x4 : Option Value) (mI : Int32), mI = jI 0 → Fr inU tM8 h h' → isM h' 8 mN → isW h' 42 xN.1 → isW h' 44 xN.2 → Run 71 [some (.ref 2), x1, x2, x3, x4, some (.int mI)] [] h' (0, 0) := by
    rintro h' x1 x2 x3 x4 mI rfl F hm' w6 w7
    refine hR 60 42 _ _ _ _ _ _ rfl ?_
    refine ⟨fun c => ?_, fun c => absurd rfl c⟩
    exact r163 h' _ _ _ _ _ F hm' w6 w7
  have r71 : ∀ (n : Nat) (g : Fm) (m : mxI) (x : xI) (h' : mj_H) (bL : Int64) (mI : Int32), trR d w f0 n g m x → itM d w n g m = mN → itX d w f0.2.1 n g m x = xN → Fr inU tM8 h h' → isM h' 8 m → isFm h' 22 g → isFm h' 21 f0 → isRr h' 7 d w → isW h' 42 x.1 → isW h' 44 x.2 → mI = jI 1 → Run 71 [some (.ref 2), some (.long (jL d)), none, some (.long bL), none, some (.int mI)] [] h' (0, 0) := by
    intro n
    induction n with
    | zero => intro g m x h' bL mI ht; exact ht.elim
    | succ n ih =>
      rintro g m x h' bL mI ⟨t1, t2, t3, t4, t5, t6⟩ eM eX F hm' hg hf' hr' w6 w7 rfl
      -- behind the step
      have r139 : ∀ (h2 : mj_H) (x' : xI) (x5 : Option Value), x' = upX f0.2.1 (nx d w g) (stM (nkE d w g.2.1 g.2.2) m) x → Fr inU tM8 h h2 → isM h2 8 (stM (nkE d w g.2.1 g.2.2) m) → isFm h2 22 (nx d w g) → isFm h2 21 f0 → isRr h2 7 d w → isW h2 42 x'.1 → isW h2 44 x'.2 → Run 139 [some (.ref 2), some (.long (jL d)), none, some (.long bL), none, x5] [] h2 (0, 0) := by
        rintro h2 x' x5 rfl F2 hm2 hg2 hf2 hr2 w62 w72
        have L2 := L.F F2 ht8
        have c51 := ct_51 G hg2 hf2 (ok9 t4) (ok9 ho)
        refine hR 60 74 _ _ _ _ _ _ rfl ?_
        rcases t6 with ⟨n0, e0⟩ | ⟨e0, t6⟩
        · rw [if_pos (by rw [e0]; exact ⟨rfl, rfl, rfl⟩)] at c51
          refine ⟨L2.K 2 rfl, _, L2.R 2 4 _ rfl, L2.K 2 rfl, _, L2.R 2 3 _ rfl, L2.K 22 rfl, jcall c51 ?_⟩
          refine ⟨fun c => absurd c (by decide), fun c => ?_⟩
          subst n0
          refine r71e h2 _ _ _ _ _ rfl F2 ?_ ?_ ?_
          · rw [← eM]
            exact hm2
          · rw [← eX]
            exact w62
          · rw [← eX]
            exact w72
        · rw [if_neg (by
            rintro ⟨q1, q2, q3⟩
            exact e0 (Prod.ext q1 (Prod.ext q2 q3)))] at c51
          refine ⟨L2.K 2 rfl, _, L2.R 2 4 _ rfl, L2.K 2 rfl, _, L2.R 2 3 _ rfl, L2.K 22 rfl, jcall c51 ?_⟩
          refine ⟨fun c => ?_, fun c => absurd rfl c⟩
          exact ih (nx d w g) _ _ h2 bL _ t6 eM eX F2 hm2 hg2 hf2 hr2 w62 w72 rfl
      have L0 := L.F F ht8
      refine hR 60 42 _ _ _ _ _ _ rfl ?_
      refine ⟨fun c => absurd c (by decide), fun c => ?_⟩
      refine ⟨L0.K 2 rfl, _, L0.R 2 2 _ rfl, L0.K 2 rfl, _, L0.R 2 1 _ rfl, L0.K 2 rfl, _, L0.R 2 4 _ rfl, L0.K 7 rfl, jcallW (ct_27' G hr' hg ⟨by omega, hd.2⟩ ⟨by omega, hw.2⟩ t1) ?_⟩
      have F1 : Fr (fun a => a = 22) noT h' (sFm h' 22 (nx d w g)) := (Fr.refl (fun a => a = 22) noT h').sFm rfl _
      have L1 := L0.F F1 (fun _ z => z.elim)
      have hg1 := isFm_sFm h' hg.1 (nx d w g)
      have hm1 : isM (sFm h' 22 (nx d w g)) 8 m := hm'.F F1 (by intro a z; omega) (fun _ _ z => z)
      have F01 : Fr inU tM8 h (sFm h' 22 (nx d w g)) := F.trans (F1.mono (by intro a z; omega) (fun _ z => z.elim))
      refine ⟨L1.K 2 rfl, _, L1.R 2 0 _ rfl, L1.K 8 rfl, jcallP (ct_30 G L1.Rk hm1 t2 t3.1 t3.2) ?_⟩
      rintro o h2 ⟨rfl, hm2, q2⟩
      have L2 := L1.F q2 ht8
      have F2 : Fr inU tM8 h h2 := F01.trans (q2.mono (by intro a z; omega) (fun _ z => z))
      have q02 : Fr (fun a => a = 22 ∨ inS 8 a) tM8 h' h2 := (F1.mono (by intro a z; omega) (fun _ z => z.elim)).trans (q2.mono (by intro a z; omega) (fun _ z => z))
      refine ⟨L2.K 2 rfl, L2.K 2 rfl, ?_⟩
      have q3 : Fr (fun a => a = 2) noT h2 (sI h2 2 9 (hI h2 2 9 + jI 1)) := (Fr.refl (fun a => a = 2) noT h2).sI rfl _ _
      have hg2 : isFm h2 22 (nx d w g) := hg1.F q2 (by omega)
      generalize sI h2 2 9 (hI h2 2 9 + jI 1) = h3 at q3
      have F3 : Fr inU tM8 h h3 := F2.trans (q3.mono (by intro a z; omega) (fun _ z => z.elim))
      have L3 := L2.F q3 (fun _ z => z.elim)
      have q03 : Fr (fun a => a = 2 ∨ a = 22 ∨ inS 8 a) tM8 h' h3 := (q02.mono (by intro a z; omega) (fun _ z => z)).trans (q3.mono (by intro a z; omega) (fun _ z => z.elim))
      have hg3 : isFm h3 22 (nx d w g) := hg2.F q3 (by omega)
      have hm3 : isM h3 8 (stM (nkE d w g.2.1 g.2.2) m) := hm2.F q3 (by intro a z; omega) (fun _ _ z => z)
      have hf3 : isFm h3 21 f0 := hf'.F q03 (by omega)
      have hr3 : isRr h3 7 d w := hr'.F q03 (by omega)
      have w63 := w6.F q03 (by omega) (by omega) (by omega)
      have w73 := w7.F q03 (by omega) (by omega) (by omega)
      refine ⟨L3.K 2 rfl, _, L3.R 2 4 _ rfl, L3.K 22 rfl, ?_⟩
      rw [hg3.2.1]
      have o4 := ok9 t4
      refine ⟨fun c2 => ?_, fun c2 => ?_⟩
      · simp (disch := omega) only [mj_lcm, jI_lt, jI_le, jI_eq, jL_lt, jL_le, jL_eq, jI_lt0, jI_0le, jI_0lt, jI_le0, jI_eq0, jL_eq0, jI_L, jI_add, jI_sub, jI_mul, jI_neg, jL_add, jL_sub, jL_mul, jL_neg, jL_I, jI_div, jI_mod, jL_div, jL_mod] at c2
        refine ⟨L3.K 2 rfl, _, L3.R 2 8 _ rfl, Or.inl (L3.K 29 rfl), (L3.num 7 (by decide)).1, _, (L3.num 7 (by decide)).2, (L3.W 44 rfl).1, ?_⟩
        have esg : hI h3 (30 + 2 * 7) 2 = jI x.2.sign := w73.sg
        rw [esg]
        have hsr : -1 ≤ x.2.sign ∧ x.2.sign ≤ 1 := by
          rcases Int.sign_trichotomy x.2 with z | z | z <;> rw [z] <;> decide
        refine ⟨fun c3 => ?_, fun c3 => ?_⟩
        · simp (disch := omega) only [mj_lcm, jI_lt, jI_le, jI_eq, jL_lt, jL_le, jL_eq, jI_lt0, jI_0le, jI_0lt, jI_le0, jI_eq0, jL_eq0, jI_L, jI_add, jI_sub, jI_mul, jI_neg, jL_add, jL_sub, jL_mul, jL_neg, jL_I, jI_div, jI_mod, jL_div, jL_mod] at c3
          have x0 := Int.sign_eq_zero_iff_zero.1 c3
          obtain ⟨k1, k2⟩ := t5 c2 x0
          refine ⟨L3.K 2 rfl, jcallP (ct_48 G L3 hm3 hf3 (by have := ho.2.1; omega) k1 k2) ?_⟩
          rintro o h4 ⟨rfl, v42, v44, f4⟩
          have q4 : Fr (fun a => a = 3 ∨ a = 4 ∨ (23 ≤ a ∧ a ≤ 28) ∨ (42 ≤ a ∧ a ≤ 45)) noT h3 h4 := f4.to _ (by first | (simp; done) | (simp; omega) | omega)
          refine r139 h4 (upX f0.2.1 (nx d w g) (stM (nkE d w g.2.1 g.2.2) m) x) _ rfl (F3.trans (q4.mono (by intro a z; omega) (fun _ z => z.elim))) (hm3.F q4 (by intro a z; omega) (fun _ _ z => z)) (hg3.F q4 (by omega)) (hf3.F q4 (by omega)) (hr3.F q4 (by omega)) ?_ ?_
          · unfold upX
            rw [if_pos ⟨c2, x0⟩]
            exact v42
          · unfold upX
            rw [if_pos ⟨c2, x0⟩]
            exact v44
        · simp (disch := omega) only [mj_lcm, jI_lt, jI_le, jI_eq, jL_lt, jL_le, jL_eq, jI_lt0, jI_0le, jI_0lt, jI_le0, jI_eq0, jL_eq0, jI_L, jI_add, jI_sub, jI_mul, jI_neg, jL_add, jL_sub, jL_mul, jL_neg, jL_I, jI_div, jI_mod, jL_div, jL_mod] at c3
          have eu : upX f0.2.1 (nx d w g) (stM (nkE d w g.2.1 g.2.2) m) x = x := by
            unfold upX
            rw [if_neg (fun z => c3 (by rw [z.2]; rfl))]
          exact r139 h3 x _ eu.symm F3 hm3 hg3 hf3 hr3 w63 w73
      · simp (disch := omega) only [mj_lcm, jI_lt, jI_le, jI_eq, jL_lt, jL_le, jL_eq, jI_lt0, jI_0le, jI_0lt, jI_le0, jI_eq0, jL_eq0, jI_L, jI_add, jI_sub, jI_mul, jI_neg, jL_add, jL_sub, jL_mul, jL_neg, jL_I, jI_div, jI_mod, jL_div, jL_mod] at c2
        have eu : upX f0.2.1 (nx d w g) (stM (nkE d w g.2.1 g.2.2) m) x = x := by
          unfold upX
          rw [if_neg (fun z => c2 z.1)]
        exact r139 h3 x _ eu.symm F3 hm3 hg3 hf3 hr3 w63 w73
  generalize hbb : (if (w - d).tmod 2 = 0 then w else w - 1) = b0 at hf0
  have hb0 : -1 ≤ b0 ∧ b0 ≤ w := by
    rw [← hbb]
    split <;> omega
  have hb2 : b0 * b0 ≤ 2147483648 * 2147483648 := by
    rcases Int.lt_or_le b0 0 with g | g
    · have : b0 = -1 := by omega
      rw [this]
      decide
    · exact sq_le g (by omega)
  have hb3 := sqn b0
  have r50 : ∀ (h2 : mj_H) (x5 : Option Value), Fr (fun a => a = 21 ∨ a = 22 ∨ inM 8 a) noT h h2 → isFm h2 21 f0 → Run 50 [some (.ref 2), some (.long (jL d)), none, some (.long (jL b0)), none, x5] [] h2 (0, 0) := by
    intro h2 x5 F2 hf2
    have L2 := L.F F2 (fun _ z => z.elim)
    refine hR 60 32 _ _ _ _ _ _ rfl ?_
    refine ⟨L2.K 2 rfl, _, L2.R 2 4 _ rfl, L2.K 2 rfl, _, L2.R 2 3 _ rfl, L2.K 22 rfl, jcallV (ct_25 G (f := 22) (g := 21) (L2.K 22 rfl) (L2.K 21 rfl)) ?_⟩
    have e1 : sF h2 22 (hJ h2 21 0) (hJ h2 21 1) (hJ h2 21 2) = sFm h2 22 f0 := by
      rw [hf2.2.1, hf2.2.2.1, hf2.2.2.2]
      rfl
    rw [e1]
    have F3 : Fr (fun a => a = 21 ∨ a = 22 ∨ inM 8 a) noT h (sFm h2 22 f0) := F2.sFm (by omega) _
    have q3 : Fr (fun a => a = 22) noT h2 (sFm h2 22 f0) := (Fr.refl (fun a => a = 22) noT h2).sFm rfl _
    have hg3 := isFm_sFm h2 (L2.K 22 rfl) f0
    have hf3 := hf2.F q3 (by omega)
    generalize sFm h2 22 f0 = h3 at F3 q3 hg3 hf3
    have L3 := L.F F3 (fun _ z => z.elim)
    have hm3 : isM0 h3 8 := by
      obtain ⟨a, b, c, e, hM⟩ := hm
      exact ⟨a, b, c, e, hM.F F3 (fun _ _ z => z)⟩
    refine ⟨L3.K 2 rfl, _, L3.R 2 2 _ rfl, L3.K 8 rfl, jcallP (ct_26 G hm3) ?_⟩
    rintro o h4 ⟨rfl, hm4, q4⟩
    have F5 : Fr (fun a => a = 21 ∨ a = 22 ∨ inM 8 a) noT h h4 := F3.trans (q4.mono (by intro a z; omega) (fun _ z => z))
    have F4 : Fr inU tM8 h h4 := F5.mono (by intro a z; omega) (fun _ z => z.elim)
    exact r71 N f0 _ (0, 0) h4 _ _ ht hMN hXN F4 hm4 (hg3.F q4 (by omega)) (hf3.F q4 (by omega)) (hr.F F4 (by omega)) (h6.F F5 (by omega) (by omega) (fun z => z)) (h7.F F5 (by omega) (by omega) (fun z => z)) rfl
  have r32 : ∀ (bL : Int64) (x5 : Option Value), bL = jL b0 → Run 32 [some (.ref 2), some (.long (jL d)), none, some (.long bL), none, x5] [] h (0, 0) := by
    rintro bL x5 rfl
    refine hR 60 20 _ _ _ _ _ _ rfl ?_
    refine ⟨L.K 2 rfl, _, L.R 2 3 _ rfl, by decide, L.K 21 rfl, jcallV (ct_24 G (f := 21) (L.K 21 rfl) _ _ _) ?_⟩
    have e1 : sF h 21 (jL 1) (jL b0) ((jL b0 * jL b0 - jL d) / jL 4) = sFm h 21 f0 := by
      rw [jL_mul, jL_sub, jL_div (by omega) (by omega) (by decide) (by decide), hf0]
      rfl
    have F1 : Fr (fun a => a = 21 ∨ a = 22 ∨ inM 8 a) noT h (sFm h 21 f0) := (Fr.refl (fun a => a = 21 ∨ a = 22 ∨ inM 8 a) noT h).sFm (by omega) _
    have := r50 (sFm h 21 f0) x5 F1 (isFm_sFm h (L.K 21 rfl) f0)
    rw [← e1] at this
    exact this
  have r16 : ∀ (dL wL : Int64) (x5 : Option Value), dL = jL d → wL = jL w → Run 16 [some (.ref 2), some (.long dL), none, some (.long wL), none, x5] [] h (0, 0) := by
    rintro dL wL x5 rfl rfl
    refine hR 60 8 _ _ _ _ _ _ rfl ?_
    refine ⟨by decide, ?_⟩
    have em : (jL w - jL d) % jL 2 = jL ((w - d).tmod 2) := by rw [jL_sub, jL_mod (by omega) (by omega) (by decide) (by decide)]
    have htm := tmod_abs (w - d) 2
    have htm2 : -2 < (w - d).tmod 2 ∧ (w - d).tmod 2 < 2 := by
      have := Int.tmod_lt_of_pos (w - d) (show (0 : Int) < 2 by decide)
      have h2 := Int.natAbs_tmod (w - d) 2
      have h3 : (2 : Int).natAbs = 2 := rfl
      rw [h3] at h2
      omega
    rw [em]
    refine ⟨fun c => ?_, fun c => ?_⟩
    · simp (disch := omega) only [mj_lcm, jI_lt, jI_le, jI_eq, jL_lt, jL_le, jL_eq, jI_lt0, jI_0le, jI_0lt, jI_le0, jI_eq0, jL_eq0, jI_L, jI_add, jI_sub, jI_mul, jI_neg, jL_add, jL_sub, jL_mul, jL_neg, jL_I, jI_div, jI_mod, jL_div, jL_mod] at c
      rw [if_pos c] at hbb
      exact r32 _ _ (by rw [hbb])
    · simp (disch := omega) only [mj_lcm, jI_lt, jI_le, jI_eq, jL_lt, jL_le, jL_eq, jI_lt0, jI_0le, jI_0lt, jI_le0, jI_eq0, jL_eq0, jI_L, jI_add, jI_sub, jI_mul, jI_neg, jL_add, jL_sub, jL_mul, jL_neg, jL_I, jI_div, jI_mod, jL_div, jL_mod] at c
      rw [if_neg c] at hbb
      exact r32 _ _ (by rw [← hbb, jL_sub])
  obtain ⟨kr, rr0, rr1⟩ := hr
  refine hR 60 0 _ _ _ _ _ _ rfl ?_
  refine ⟨L.K 2 rfl, _, L.R 2 1 _ rfl, L.K 7 rfl, L.K 2 rfl, _, L.R 2 1 _ rfl, L.K 7 rfl, ?_⟩
  exact r16 _ _ _ rr0 rr1
