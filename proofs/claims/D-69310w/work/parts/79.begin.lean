/-! contracts: a pair begins; sizes and residues -/
/-- FormHouse$Mover.begin(LFormHouse$Pair;LFormHouse$Matrix;JJJLFormHouse$Reckoner;)V; cuts at [48, 94] -/
def cl_161_2 : List mj_E := (100, false, .aload_n 2, 1, 0, 0, 0, 0, 0) ::
  (101, false, .getfield 56, 3, 4, 3, 2, 0, 0) ::
  (104, false, .aload_n 0, 1, 0, 0, 0, 0, 0) ::
  (105, false, .getfield 19, 3, 15, 2, 2, 0, 0) ::
  (108, false, .invokevirtual 29, 3, 31, 3, 2, 0, 0) ::
  (111, false, .aload 9, 2, 0, 0, 0, 0, 0) ::
  (113, false, .aload_n 1, 1, 0, 0, 0, 0, 0) ::
  (114, false, .getfield 59, 3, 16, 1, 2, 0, 0) ::
  (117, false, .aload_n 0, 1, 0, 0, 0, 0, 0) ::
  (118, false, .getfield 25, 3, 15, 3, 2, 0, 0) ::
  (121, false, .getfield 47, 3, 16, 0, 2, 0, 0) ::
  (124, false, .aload_n 0, 1, 0, 0, 0, 0, 0) ::
  (125, false, .getfield 16, 3, 15, 1, 2, 0, 0) ::
  (128, false, .invokevirtual 35, 3, 49, 3, 2, 0, 0) ::
  (131, false, .aload_n 1, 1, 0, 0, 0, 0, 0) ::
  (132, false, .invokevirtual 62, 3, 162, 0, 16, 0, 0) ::
  (135, false, .return_, 1, 0, 0, 0, 0, 0) ::
  []
def cl_161_1 : List mj_E := (49, false, .getfield 19, 3, 15, 2, 2, 0, 0) ::
  (52, false, .lload 5, 2, 0, 0, 0, 0, 0) ::
  (54, false, .lload 7, 2, 0, 0, 0, 0, 0) ::
  (56, false, .lmul, 1, 0, 0, 0, 0, 0) ::
  (57, false, .invokevirtual 38, 3, 21, 1, 5, 0, 0) ::
  (60, false, .aload 9, 2, 0, 0, 0, 0, 0) ::
  (62, false, .aload_n 0, 1, 0, 0, 0, 0, 0) ::
  (63, false, .getfield 16, 3, 15, 1, 2, 0, 0) ::
  (66, false, .aload_n 2, 1, 0, 0, 0, 0, 0) ::
  (67, false, .getfield 53, 3, 4, 1, 2, 0, 0) ::
  (70, false, .aload_n 0, 1, 0, 0, 0, 0, 0) ::
  (71, false, .getfield 19, 3, 15, 2, 2, 0, 0) ::
  (74, false, .invokevirtual 29, 3, 31, 3, 2, 0, 0) ::
  (77, false, .aload 9, 2, 0, 0, 0, 0, 0) ::
  (79, false, .aload_n 1, 1, 0, 0, 0, 0, 0) ::
  (80, false, .getfield 47, 3, 16, 0, 2, 0, 0) ::
  (83, false, .aload_n 0, 1, 0, 0, 0, 0, 0) ::
  (84, false, .getfield 10, 3, 15, 0, 2, 0, 0) ::
  (87, false, .aload_n 0, 1, 0, 0, 0, 0, 0) ::
  (88, false, .getfield 16, 3, 15, 1, 2, 0, 0) ::
  (91, false, .invokevirtual 35, 3, 49, 3, 2, 0, 0) ::
  (94, true, .aload 9, 2, 0, 0, 0, 0, 0) ::
  (96, false, .aload_n 0, 1, 0, 0, 0, 0, 0) ::
  (97, false, .getfield 16, 3, 15, 1, 2, 0, 0) ::
  cl_161_2
def cl_161_0 : List mj_E := (0, false, .aload_n 0, 1, 0, 0, 0, 0, 0) ::
  (1, false, .getfield 19, 3, 15, 2, 2, 0, 0) ::
  (4, false, .lload_n 3, 1, 0, 0, 0, 0, 0) ::
  (5, false, .lload 7, 2, 0, 0, 0, 0, 0) ::
  (7, false, .lmul, 1, 0, 0, 0, 0, 0) ::
  (8, false, .invokevirtual 38, 3, 21, 1, 5, 0, 0) ::
  (11, false, .aload 9, 2, 0, 0, 0, 0, 0) ::
  (13, false, .aload_n 0, 1, 0, 0, 0, 0, 0) ::
  (14, false, .getfield 10, 3, 15, 0, 2, 0, 0) ::
  (17, false, .aload_n 2, 1, 0, 0, 0, 0, 0) ::
  (18, false, .getfield 42, 3, 4, 0, 2, 0, 0) ::
  (21, false, .aload_n 0, 1, 0, 0, 0, 0, 0) ::
  (22, false, .getfield 19, 3, 15, 2, 2, 0, 0) ::
  (25, false, .invokevirtual 29, 3, 31, 3, 2, 0, 0) ::
  (28, false, .aload 9, 2, 0, 0, 0, 0, 0) ::
  (30, false, .aload_n 0, 1, 0, 0, 0, 0, 0) ::
  (31, false, .getfield 25, 3, 15, 3, 2, 0, 0) ::
  (34, false, .getfield 47, 3, 16, 0, 2, 0, 0) ::
  (37, false, .aload_n 2, 1, 0, 0, 0, 0, 0) ::
  (38, false, .getfield 50, 3, 4, 2, 2, 0, 0) ::
  (41, false, .aload_n 0, 1, 0, 0, 0, 0, 0) ::
  (42, false, .getfield 19, 3, 15, 2, 2, 0, 0) ::
  (45, false, .invokevirtual 29, 3, 31, 3, 2, 0, 0) ::
  (48, true, .aload_n 0, 1, 0, 0, 0, 0, 0) ::
  cl_161_1
def cd_161 : List mj_E := cl_161_0
def cx_161 : mj_X := (0, [], [])
theorem tb_161 : mj_tab (mj_mt 161) cx_161 cd_161 mj_mh [(0, 0, 0), (3027, 0, 0), (0, 0, 0), (0, 0, 0), (0, 0, 0), (6085, 0, 0), (0, 0, 0), (0, 0, 0), (3025, 0, 0), (0, 0, 0), (1121, 0, 0), (0, 0, 0), (3027, 0, 0), (6086, 0, 0), (0, 0, 0), (0, 0, 0), (3028, 0, 0), (3015, 0, 0), (0, 0, 0), (1128, 0, 0), (0, 0, 0), (3027, 0, 0), (6086, 0, 0), (0, 0, 0), (3027, 0, 0), (0, 0, 0), (0, 0, 0), (0, 0, 0), (6085, 0, 0), (0, 0, 0), (0, 0, 0), (3026, 0, 0), (0, 0, 0), (1125, 0, 0), (0, 0, 0), (3027, 0, 0), (6086, 0, 0), (0, 0, 0), (0, 0, 0), (3015, 0, 0), (0, 0, 0), (3025, 0, 0), (0, 0, 0), (3026, 0, 0), (6087, 0, 0), (0, 0, 0), (0, 0, 0), (3026, 0, 0), (0, 0, 0), (1132, 0, 0), (0, 0, 0), (3027, 0, 0), (6086, 0, 0), (0, 0, 0), (0, 0, 0), (3018, 0, 0), (0, 0, 0), (3028, 0, 0), (3015, 0, 0), (0, 0, 0), (3026, 0, 0), (6087, 0, 0), (0, 0, 0), (6088, 0, 0), (0, 0, 0)] = true := mj_tab_f (by decide +kernel)
theorem ct_161 (G : mj_G) {h : mj_H} (L : isLay h) {q : Nat} {m : mxI} {up dn g : Int} (hq : isQ0 h q) (hq1 : 131 < q) (hm : isM h 114 m) (hu : -9223372036854775808 < up * g ∧ up * g < 9223372036854775808) (hd : -9223372036854775808 < dn * g ∧ dn * g < 9223372036854775808) (b1 : (m.1 * (up * g)).natAbs + (m.2.1 * (dn * g)).natAbs < 4294967296 ^ 1024) (b2 : (m.2.2.1 * (up * g)).natAbs + (m.2.2.2 * (dn * g)).natAbs < 4294967296 ^ 1024) : mj_Ct G (mj_mt 161) 0 0 [.ref 85, .ref q, .ref 114, .long (jL up), .long (jL dn), .long (jL g), .ref 3] h (fun o h' => o = .returned none ∧ isQ h' q (trn (m.1 * (up * g) + m.2.1 * (dn * g), m.2.2.1 * (up * g) + m.2.2.2 * (dn * g))) ∧ FrI [3, 4, 86, 87, 88, 89, 90, 91, 93, 94, q + 1, q + 2, q + 3, q + 4] h h') := by
  obtain ⟨a, b, c, d, hM, wa, wb, wc, ws⟩ := hm
  obtain ⟨m1, ra, rb, rc, rd, r4, r5, g6, hab, hcd, -⟩ := hM
  obtain ⟨k0, r0, r1, w0, w1⟩ := hq
  refine mj_Ct_of mj_ok tb_161 rfl rfl (Nat.le_of_ble_eq_true rfl) (fun Run hR => ?_)
  have r94 : ∀ (h' : mj_H), FrI [3, 4, 86, 87, 88, 89, 90, 91, 93, 94, q + 1, q + 2] h h' → isW h' 90 (dn * g) → isW h' 93 (m.2.2.1 * (up * g)) → isW h' (q + 1) (m.1 * (up * g) + m.2.1 * (dn * g)) → Run 94 [some (.ref 85), some (.ref q), some (.ref 114), some (.long (jL up)), none, some (.long (jL dn)), none, some (.long (jL g)), none, some (.ref 3)] [] h' (0, 0) := by
    intro h' F v90 v93 vq1
    have E := F.1
    have L0 := L.fr E
    refine hR 60 45 _ _ _ _ _ _ rfl ?_
    refine ⟨L0.K 85 rfl, _, L0.R 85 1 _ rfl, (fK E _).trans m1, _, (fR E _ _).trans rd, L0.K 85 rfl, _, L0.R 85 2 _ rfl, L0.K 3 rfl, jcallP (ct_31 G (t := 88) (a := d) (b := 90) L0.Rk (L0.W 88 rfl) (ws.fr F (by first | (simp; done) | (simp; omega) | omega) (by first | (simp; done) | (simp; omega) | omega)) v90 (by rw [← Int.natAbs_mul]; omega)) ?_⟩
    rintro o g1 ⟨rfl, v88, f1⟩
    have E1 := f1.1.trans E
    have L1 := L.fr E1
    refine ⟨(fK E1 _).trans k0, _, (fR E1 _ _).trans r1, L1.K 85 rfl, _, L1.R 85 3 _ rfl, L1.Q92.1, _, L1.Q92.2.1, L1.K 85 rfl, _, L1.R 85 1 _ rfl, L1.K 3 rfl, jcallP (ct_49 G (t := q + 3) (a := 93) (b := 88) L1.Rk (w1.fr E1) (v93.fr f1 (by first | (simp; done) | (simp; omega) | omega) (by first | (simp; done) | (simp; omega) | omega)) v88 b2) ?_⟩
    rintro o g2 ⟨rfl, vq3, f2⟩
    have E2 := f2.1.trans E1
    have hq2 : isQ g2 q (m.1 * (up * g) + m.2.1 * (dn * g), m.2.2.1 * (up * g) + m.2.2.2 * (dn * g)) := ⟨isQ0.fr ⟨k0, r0, r1, w0, w1⟩ E2, (vq1.fr f1 (by first | (simp; done) | (simp; omega) | omega) (by first | (simp; done) | (simp; omega) | omega)).fr f2 (by first | (simp; done) | (simp; omega) | omega) (by first | (simp; done) | (simp; omega) | omega), vq3⟩
    refine ⟨hq2.1.1, jcallP (ct_162 G hq2) ?_⟩
    rintro o g3 ⟨rfl, hq3, f3⟩
    exact ⟨rfl, hq3, (((F.trans f1).trans f2).trans f3).mono (by simp)⟩
  have r48 : ∀ (h' : mj_H), FrI [3, 4, 86, 87, 90, 91, 93, 94] h h' → isW h' 86 (m.1 * (up * g)) → isW h' 93 (m.2.2.1 * (up * g)) → Run 48 [some (.ref 85), some (.ref q), some (.ref 114), some (.long (jL up)), none, some (.long (jL dn)), none, some (.long (jL g)), none, some (.ref 3)] [] h' (0, 0) := by
    intro h' F v86 v93
    have E := F.1
    have L0 := L.fr E
    have c21 := ct_21 G (L0.W 90 rfl) (v := dn * g) hd.1 hd.2
    rw [← jL_mul] at c21
    refine hR 60 23 _ _ _ _ _ _ rfl ?_
    refine ⟨L0.K 85 rfl, _, L0.R 85 2 _ rfl, (L0.W 90 rfl).1, jcallP c21 ?_⟩
    rintro o g1 ⟨rfl, v90, f1⟩
    have E1 := f1.1.trans E
    have L1 := L.fr E1
    refine ⟨L1.K 85 rfl, _, L1.R 85 1 _ rfl, (fK E1 _).trans m1, _, (fR E1 _ _).trans rb, L1.K 85 rfl, _, L1.R 85 2 _ rfl, L1.K 3 rfl, jcallP (ct_31 G (t := 88) (a := b) (b := 90) L1.Rk (L1.W 88 rfl) ((wb.fr F (by first | (simp; done) | (simp; omega) | omega) (by first | (simp; done) | (simp; omega) | omega)).fr f1 (by first | (simp; done) | (simp; omega) | omega) (by first | (simp; done) | (simp; omega) | omega)) v90 (by rw [← Int.natAbs_mul]; omega)) ?_⟩
    rintro o g2 ⟨rfl, v88, f2⟩
    have E2 := f2.1.trans E1
    have L2 := L.fr E2
    refine ⟨(fK E2 _).trans k0, _, (fR E2 _ _).trans r0, L2.K 85 rfl, _, L2.R 85 0 _ rfl, L2.K 85 rfl, _, L2.R 85 1 _ rfl, L2.K 3 rfl, jcallP (ct_49 G (t := q + 1) (a := 86) (b := 88) L2.Rk (w0.fr E2) ((v86.fr f1 (by first | (simp; done) | (simp; omega) | omega) (by first | (simp; done) | (simp; omega) | omega)).fr f2 (by first | (simp; done) | (simp; omega) | omega) (by first | (simp; done) | (simp; omega) | omega)) v88 b1) ?_⟩
    rintro o g3 ⟨rfl, vq1, f3⟩
    exact r94 g3 ((((F.trans f1).trans f2).trans f3).mono (by simp)) ((v90.fr f2 (by first | (simp; done) | (simp; omega) | omega) (by first | (simp; done) | (simp; omega) | omega)).fr f3 (by first | (simp; done) | (simp; omega) | omega) (by first | (simp; done) | (simp; omega) | omega)) (((v93.fr f1 (by first | (simp; done) | (simp; omega) | omega) (by first | (simp; done) | (simp; omega) | omega)).fr f2 (by first | (simp; done) | (simp; omega) | omega) (by first | (simp; done) | (simp; omega) | omega)).fr f3 (by first | (simp; done) | (simp; omega) | omega) (by first | (simp; done) | (simp; omega) | omega)) vq1
  have c21 := ct_21 G (L.W 90 rfl) (v := up * g) hu.1 hu.2
  rw [← jL_mul] at c21
  refine hR 60 0 _ _ _ _ _ _ rfl ?_
  refine ⟨L.K 85 rfl, _, L.R 85 2 _ rfl, (L.W 90 rfl).1, jcallP c21 ?_⟩
  rintro o g1 ⟨rfl, v90, f1⟩
  have E1 := f1.1
  have L1 := L.fr E1
  refine ⟨L1.K 85 rfl, _, L1.R 85 0 _ rfl, (fK E1 _).trans m1, _, (fR E1 _ _).trans ra, L1.K 85 rfl, _, L1.R 85 2 _ rfl, L1.K 3 rfl, jcallP (ct_31 G (t := 86) (a := a) (b := 90) L1.Rk (L1.W 86 rfl) (wa.fr f1 (by first | (simp; done) | (simp; omega) | omega) (by first | (simp; done) | (simp; omega) | omega)) v90 (by rw [← Int.natAbs_mul]; omega)) ?_⟩
  rintro o g2 ⟨rfl, v86, f2⟩
  have E2 := f2.1.trans E1
  have L2 := L.fr E2
  refine ⟨L2.K 85 rfl, _, L2.R 85 3 _ rfl, L2.Q92.1, _, L2.Q92.2.1, (fK E2 _).trans m1, _, (fR E2 _ _).trans rc, L2.K 85 rfl, _, L2.R 85 2 _ rfl, L2.K 3 rfl, jcallP (ct_31 G (t := 93) (a := c) (b := 90) L2.Rk (L2.W 93 rfl) ((wc.fr f1 (by first | (simp; done) | (simp; omega) | omega) (by first | (simp; done) | (simp; omega) | omega)).fr f2 (by first | (simp; done) | (simp; omega) | omega) (by first | (simp; done) | (simp; omega) | omega)) (v90.fr f2 (by first | (simp; done) | (simp; omega) | omega) (by first | (simp; done) | (simp; omega) | omega)) (by rw [← Int.natAbs_mul]; omega)) ?_⟩
  rintro o g3 ⟨rfl, v93, f3⟩
  exact r48 g3 (((f1.trans f2).trans f3).mono (by simp)) (v86.fr f3 (by first | (simp; done) | (simp; omega) | omega) (by first | (simp; done) | (simp; omega) | omega)) v93
theorem log_ex {x : Nat} (h0 : 0 < x) (h1 : x < 4294967296) : ∃ l, l < 32 ∧ 2 ^ l ≤ x ∧ x < 2 ^ (l + 1) := by
  refine ⟨Nat.log2 x, ?_, Nat.log2_self_le (by omega), Nat.lt_log2_self⟩
  exact (Nat.log2_lt (by omega)).2 h1
/-- FormHouse$Whole.size()I; cuts at [] -/
def cd_184 : List mj_E := [(0, false, .aload_n 0, 1, 0, 0, 0, 0, 0),
  (1, false, .getfield 17, 3, 5, 1, 0, 0, 0),
  (4, false, .ifCond .ne 7, 3, 5, 0, 0, 0, 0),
  (7, false, .iconst 0, 1, 0, 0, 0, jI 0, 0),
  (8, false, .goto 25, 3, 18, 0, 0, 0, 0),
  (11, false, .bipush 32, 2, 0, 0, 0, jI 32, 0),
  (13, false, .aload_n 0, 1, 0, 0, 0, 0, 0),
  (14, false, .getfield 17, 3, 5, 1, 0, 0, 0),
  (17, false, .imul, 1, 0, 0, 0, 0, 0),
  (18, false, .aload_n 0, 1, 0, 0, 0, 0, 0),
  (19, false, .getfield 9, 3, 5, 0, 2, 0, 0),
  (22, false, .aload_n 0, 1, 0, 0, 0, 0, 0),
  (23, false, .getfield 17, 3, 5, 1, 0, 0, 0),
  (26, false, .iconst 1, 1, 0, 0, 0, jI 1, 0),
  (27, false, .isub, 1, 0, 0, 0, 0, 0),
  (28, false, .iaload, 1, 0, 0, 0, 0, 0),
  (29, false, .invokestatic 36, 3, 54, 1, 0, 0, 0),
  (32, false, .isub, 1, 0, 0, 0, 0, 0),
  (33, false, .ireturn, 1, 0, 0, 0, 0, 0)]
def cx_184 : mj_X := (1, [], [])
theorem tb_184 : mj_tab (mj_mt 184) cx_184 cd_184 mj_mh [(0, 0, 0), (1104, 0, 0), (0, 0, 0), (0, 0, 0), (0, 0, 0), (0, 0, 0), (0, 0, 0), (1104, 0, 0), (0, 0, 0), (0, 0, 0), (1097, 0, 0), (0, 0, 0), (1104, 0, 0), (0, 0, 0), (0, 0, 0), (0, 0, 0), (6179, 0, 0), (0, 0, 0), (0, 0, 0)] = true := mj_tab_f (by decide +kernel)
theorem ct_184 (G : mj_G) {h : mj_H} {w : Nat} {v : Int} (hw : isW h w v) : mj_Ct G (mj_mt 184) 0 0 [.ref w] h (fun o h' => h' = h ∧ ∃ s : Nat, o = .returned (some (.int (jI s))) ∧ ((v = 0 ∧ s = 0) ∨ (0 < s ∧ 2 ^ (s - 1) ≤ v.natAbs ∧ v.natAbs < 2 ^ s))) := by
  obtain ⟨a0, n, a1, a2, a3, a4, a5⟩ := hw
  refine mj_Ct_of mj_ok tb_184 rfl rfl (Nat.le_of_ble_eq_true rfl) (fun Run hR => ?_)
  refine hR 40 0 _ _ _ _ _ _ rfl ?_
  refine ⟨a0.1, ?_⟩
  rw [a2]
  refine ⟨fun c => ?_, fun c => ⟨a0.1, a0.1, _, a0.2.1, a0.1, ?_⟩⟩
  · simp (disch := omega) only [mj_lcm, jI_lt, jI_le, jI_eq, jL_lt, jL_le, jL_eq, jI_lt0, jI_0le, jI_0lt, jI_le0, jI_eq0, jL_eq0, jI_L, jI_add, jI_sub, jI_mul, jI_neg, jL_add, jL_sub, jL_mul, jL_neg, jL_I, jI_div, jI_mod, jL_div, jL_mod] at c
    refine ⟨rfl, 0, rfl, Or.inl ⟨?_, rfl⟩⟩
    have : n = 0 := by omega
    subst this
    have h0 : mag (h.1 (w + 1)) 0 = 0 := rfl
    rw [h0] at a4
    omega
  · simp (disch := omega) only [mj_lcm, jI_lt, jI_le, jI_eq, jL_lt, jL_le, jL_eq, jI_lt0, jI_0le, jI_0lt, jI_le0, jI_eq0, jL_eq0, jI_L, jI_add, jI_sub, jI_mul, jI_neg, jL_add, jL_sub, jL_mul, jL_neg, jL_I, jI_div, jI_mod, jL_div, jL_mod] at c
    rw [a2]
    obtain ⟨k, rfl⟩ : ∃ k, n = k + 1 := ⟨n - 1, by omega⟩
    have ej : jI ((k + 1 : Nat) : Int) - jI 1 = jI (k : Nat) := by
      rw [jI_sub]
      congr 1
      omega
    have hx0 : 0 < wd (h.1 (w + 1) k) := by
      rcases Nat.eq_zero_or_pos (wd (h.1 (w + 1) k)) with z | z
      · exfalso
        have e : mag (h.1 (w + 1)) (k + 1) = mag (h.1 (w + 1)) k + wd (h.1 (w + 1) k) * 4294967296 ^ k := rfl
        have hl := mag_lt (h.1 (w + 1)) k
        rw [z, Nat.zero_mul, Nat.add_zero] at e
        rw [Nat.add_sub_cancel] at a5
        rcases a5 with y | y <;> omega
      · exact z
    obtain ⟨l, l1, l2, l3⟩ := log_ex hx0 (wd_lt _)
    have c54 := ct_54 G l2 l3 l1 h
    rw [jI_wd] at c54
    refine ⟨Or.inl a0.2.2.1, ?_, ?_⟩
    · rw [ej, a0.2.2.2.1]
      exact jI_in (by omega) (by omega) (by omega)
    · rw [ej, jI_nat (by omega) (by omega), Int.toNat_natCast]
      refine jcall c54 ?_
      refine ⟨rfl, 32 * k + l + 1, ?_, Or.inr ⟨by omega, ?_, ?_⟩⟩
      · rw [jI_mul, jI_sub, show (32 : Int) * ((k + 1 : Nat) : Int) - (31 - (l : Int)) = ((32 * k + l + 1 : Nat) : Int) by omega]
      · have e : mag (h.1 (w + 1)) (k + 1) = mag (h.1 (w + 1)) k + wd (h.1 (w + 1) k) * 4294967296 ^ k := rfl
        have ep : 4294967296 ^ k = 2 ^ (32 * k) := by rw [Nat.pow_mul]
        rw [Nat.add_sub_cancel, Nat.pow_add, a4, e, ep, Nat.mul_comm (2 ^ (32 * k))]
        have : 2 ^ l * 2 ^ (32 * k) ≤ wd (h.1 (w + 1) k) * 2 ^ (32 * k) := Nat.mul_le_mul_right _ l2
        omega
      · have e : mag (h.1 (w + 1)) (k + 1) = mag (h.1 (w + 1)) k + wd (h.1 (w + 1) k) * 4294967296 ^ k := rfl
        have ep : 4294967296 ^ k = 2 ^ (32 * k) := by rw [Nat.pow_mul]
        have hl := mag_lt (h.1 (w + 1)) k
        rw [ep] at hl e
        rw [show 32 * k + l + 1 = 32 * k + (l + 1) by omega, Nat.pow_add, a4, e, Nat.mul_comm (2 ^ (32 * k))]
        have h1 : (wd (h.1 (w + 1) k) + 1) * 2 ^ (32 * k) ≤ 2 ^ (l + 1) * 2 ^ (32 * k) := Nat.mul_le_mul_right _ l3
        rw [Nat.add_mul, Nat.one_mul] at h1
        omega
theorem sgn_nn {v : Int} (h : 0 ≤ v) : 0 ≤ v.sign := by
  by_cases z : v = 0
  · rw [z]
    decide
  · rw [Int.sign_eq_one_of_pos (by omega)]
    decide
theorem emod_step (Q B x m : Int) : (Q % m * B + x) % m = (Q * B + x) % m := by
  rw [Int.add_emod, Int.mul_emod, Int.emod_emod, ← Int.mul_emod, ← Int.add_emod]
/-- a part of a number above a place -/
theorem mag_div (g : Nat → Int32) : ∀ (n k : Nat), k < n → mag g n / 4294967296 ^ k = mag g n / 4294967296 ^ (k + 1) * 4294967296 + wd (g k)
  | 0, k, h => absurd h (Nat.not_lt_zero k)
  | n + 1, k, h => by
    have e : mag g (n + 1) = mag g n + wd (g n) * 4294967296 ^ n := rfl
    have hlt := mag_lt g n
    by_cases hk : k = n
    · subst hk
      have hw := wd_lt (g k)
      have h1 : mag g (k + 1) / 4294967296 ^ k = wd (g k) := by
        rw [e, Nat.add_mul_div_right _ _ (Nat.pow_pos (by decide)), Nat.div_eq_of_lt hlt, Nat.zero_add]
      have h2 : mag g (k + 1) / 4294967296 ^ (k + 1) = 0 := Nat.div_eq_of_lt (mag_lt g (k + 1))
      rw [h1, h2, Nat.zero_mul, Nat.zero_add]
    · have ih := mag_div g n k (by omega)
      obtain ⟨j, hj⟩ : ∃ j, n = k + 1 + j := ⟨n - (k + 1), by omega⟩
      have p1 : 4294967296 ^ n = 4294967296 ^ (k + 1) * 4294967296 ^ j := by rw [hj, Nat.pow_add]
      have p2 : 4294967296 ^ (k + 1) = 4294967296 ^ k * 4294967296 := Nat.pow_succ ..
      have q1 : mag g (n + 1) / 4294967296 ^ (k + 1) = mag g n / 4294967296 ^ (k + 1) + wd (g n) * 4294967296 ^ j := by
        rw [e, p1, show wd (g n) * (4294967296 ^ (k + 1) * 4294967296 ^ j) = wd (g n) * 4294967296 ^ j * 4294967296 ^ (k + 1) by rw [Nat.mul_comm (4294967296 ^ (k + 1)), Nat.mul_assoc], Nat.add_mul_div_right _ _ (Nat.pow_pos (by decide))]
      have q2 : mag g (n + 1) / 4294967296 ^ k = mag g n / 4294967296 ^ k + wd (g n) * 4294967296 ^ j * 4294967296 := by
        rw [e, p1, p2, show wd (g n) * (4294967296 ^ k * 4294967296 * 4294967296 ^ j) = wd (g n) * 4294967296 ^ j * 4294967296 * 4294967296 ^ k by
          generalize 4294967296 ^ k = x
          generalize 4294967296 ^ j = y
          generalize 4294967296 = z
          grind, Nat.add_mul_div_right _ _ (Nat.pow_pos (by decide))]
      rw [q1, q2, ih, Nat.add_mul]
      omega
/-- FormHouse$Whole.modulo(I)I; cuts at [10, 36, 56, 57] -/
def cl_189_1 : List mj_E := (40, false, .ifCond .ge 16, 3, 34, 0, 0, 0, 0) ::
  (43, false, .lload_n 2, 1, 0, 0, 0, 0, 0) ::
  (44, false, .lconst 0, 1, 0, 0, 0, 0, jL 0) ::
  (45, false, .lcmp, 1, 0, 0, 0, 0, 0) ::
  (46, false, .ifCond .le 10, 3, 34, 0, 0, 0, 0) ::
  (49, false, .iload_n 1, 1, 0, 0, 0, 0, 0) ::
  (50, false, .i2l, 1, 0, 0, 0, 0, 0) ::
  (51, false, .lload_n 2, 1, 0, 0, 0, 0, 0) ::
  (52, false, .lsub, 1, 0, 0, 0, 0, 0) ::
  (53, false, .goto 4, 3, 35, 0, 0, 0, 0) ::
  (56, true, .lload_n 2, 1, 0, 0, 0, 0, 0) ::
  (57, true, .l2i, 1, 0, 0, 0, 0, 0) ::
  (58, false, .ireturn, 1, 0, 0, 0, 0, 0) ::
  []
def cl_189_0 : List mj_E := (0, false, .lconst 0, 1, 0, 0, 0, 0, jL 0) ::
  (1, false, .lstore_n 2, 1, 0, 0, 0, 0, 0) ::
  (2, false, .aload_n 0, 1, 0, 0, 0, 0, 0) ::
  (3, false, .getfield 17, 3, 5, 1, 0, 0, 0) ::
  (6, false, .iconst 1, 1, 0, 0, 0, jI 1, 0) ::
  (7, false, .isub, 1, 0, 0, 0, 0, 0) ::
  (8, false, .istore 4, 2, 0, 0, 0, 0, 0) ::
  (10, true, .iload 4, 2, 0, 0, 0, 0, 0) ::
  (12, false, .ifCond .lt 24, 3, 22, 0, 0, 0, 0) ::
  (15, false, .lload_n 2, 1, 0, 0, 0, 0, 0) ::
  (16, false, .bipush 32, 2, 0, 0, 0, jI 32, 0) ::
  (18, false, .lshl, 1, 0, 0, 0, 0, 0) ::
  (19, false, .aload_n 0, 1, 0, 0, 0, 0, 0) ::
  (20, false, .iload 4, 2, 0, 0, 0, 0, 0) ::
  (22, false, .invokevirtual 46, 3, 32, 1, 5, 0, 0) ::
  (25, false, .lor, 1, 0, 0, 0, 0, 0) ::
  (26, false, .iload_n 1, 1, 0, 0, 0, 0, 0) ::
  (27, false, .i2l, 1, 0, 0, 0, 0, 0) ::
  (28, false, .lrem, 1, 0, 0, 0, 0, 0) ::
  (29, false, .lstore_n 2, 1, 0, 0, 0, 0, 0) ::
  (30, false, .iinc 4 (-1), 3, 0, 0, 0, jI (-1), 0) ::
  (33, false, .goto (-23), 3, 7, 0, 0, 0, 0) ::
  (36, true, .aload_n 0, 1, 0, 0, 0, 0, 0) ::
  (37, false, .getfield 27, 3, 5, 2, 0, 0, 0) ::
  cl_189_1
def cd_189 : List mj_E := cl_189_0
def cx_189 : mj_X := (1, [], [])
theorem tb_189 : mj_tab (mj_mt 189) cx_189 cd_189 mj_mh [(0, 0, 0), (0, 0, 0), (0, 0, 0), (1104, 0, 0), (0, 0, 0), (0, 0, 0), (0, 0, 0), (0, 0, 0), (0, 0, 0), (0, 0, 0), (0, 0, 0), (0, 0, 0), (0, 0, 0), (0, 0, 0), (6198, 0, 0), (0, 0, 0), (0, 0, 0), (0, 0, 0), (0, 0, 0), (0, 0, 0), (0, 0, 0), (0, 0, 0), (0, 0, 0), (1108, 0, 0), (0, 0, 0), (0, 0, 0), (0, 0, 0), (0, 0, 0), (0, 0, 0), (0, 0, 0), (0, 0, 0), (0, 0, 0), (0, 0, 0), (0, 0, 0), (0, 0, 0), (0, 0, 0), (0, 0, 0)] = true := mj_tab_f (by decide +kernel)
theorem ct_189 (G : mj_G) {h : mj_H} {w : Nat} {v m : Int} (hw : isW h w v) (hm : 0 < m ∧ m < 2147483648) : mj_Ct G (mj_mt 189) 0 0 [.ref w, .int (jI m)] h (jR (.int (jI (v % m))) h) := by
  have sg := hw.sg
  have sr := sgn_rng v
  obtain ⟨a0, n, a1, a2, a3, a4, a5⟩ := hw
  generalize hV : v.natAbs = V at a4 a5
  have hr0 : 0 ≤ (V : Int) % m := Int.emod_nonneg _ (by omega)
  have hr1 : (V : Int) % m < m := Int.emod_lt_of_pos _ hm.1
  have hneg : v < 0 → v % m = if (V : Int) % m = 0 then 0 else m - (V : Int) % m := by
    intro hv
    have e : v = -(V : Int) := by omega
    rw [e, Int.neg_emod]
    by_cases z : (V : Int) % m = 0
    · rw [if_pos (Int.dvd_of_emod_eq_zero z), if_pos z]
    · rw [if_neg (fun y => z (Int.emod_eq_zero_of_dvd y)), if_neg z]
      omega
  refine mj_Ct_of mj_ok tb_189 rfl rfl (Nat.le_of_ble_eq_true rfl) (fun Run hR => ?_)
  have r57 : ∀ (x : Int) (x2 x3 x4 : Option Value), x = v % m → Run 57 [some (.ref w), some (.int (jI m)), x2, x3, x4] [.long (jL x)] h (0, 0) := by
    rintro x x2 x3 x4 rfl
    refine hR 40 35 _ _ _ _ _ _ rfl ?_
    exact jRe (by rw [jL_I])
  have r56 : ∀ (x4 : Option Value), (V : Int) % m = v % m → Run 56 [some (.ref w), some (.int (jI m)), some (.long (jL ((V : Int) % m))), none, x4] [] h (0, 0) := by
    intro x4 he
    refine hR 40 34 _ _ _ _ _ _ rfl ?_
    exact r57 _ _ _ _ he
  have r36 : ∀ (x4 : Option Value), Run 36 [some (.ref w), some (.int (jI m)), some (.long (jL ((V : Int) % m))), none, x4] [] h (0, 0) := by
    intro x4
    refine hR 40 22 _ _ _ _ _ _ rfl ?_
    refine ⟨a0.1, ?_⟩
    rw [sg]
    refine ⟨fun c => ?_, fun c => ⟨fun c2 => ?_, fun c2 => ?_⟩⟩
    · simp (disch := omega) only [mj_lcm, jI_lt, jI_le, jI_eq, jL_lt, jL_le, jL_eq, jI_lt0, jI_0le, jI_0lt, jI_le0, jI_eq0, jL_eq0, jI_L, jI_add, jI_sub, jI_mul, jI_neg, jL_add, jL_sub, jL_mul, jL_neg, jL_I, jI_div, jI_mod, jL_div, jL_mod] at c
      have hv : 0 ≤ v := by
        rcases Int.lt_or_le v 0 with z | z
        · rw [Int.sign_eq_neg_one_of_neg z] at c
          omega
        · exact z
      refine r56 _ ?_
      rw [show (V : Int) = v by omega]
    · simp (disch := omega) only [mj_lcm, jI_lt, jI_le, jI_eq, jL_lt, jL_le, jL_eq, jI_lt0, jI_0le, jI_0lt, jI_le0, jI_eq0, jL_eq0, jI_L, jI_add, jI_sub, jI_mul, jI_neg, jL_add, jL_sub, jL_mul, jL_neg, jL_I, jI_div, jI_mod, jL_div, jL_mod] at c c2
      have hv : v < 0 := by
        rcases Int.lt_or_le v 0 with z | z
        · exact z
        · have := sgn_nn z
          omega
      refine r56 _ ?_
      rw [hneg hv, if_pos (by omega)]
      omega
    · simp (disch := omega) only [mj_lcm, jI_lt, jI_le, jI_eq, jL_lt, jL_le, jL_eq, jI_lt0, jI_0le, jI_0lt, jI_le0, jI_eq0, jL_eq0, jI_L, jI_add, jI_sub, jI_mul, jI_neg, jL_add, jL_sub, jL_mul, jL_neg, jL_I, jI_div, jI_mod, jL_div, jL_mod] at c c2
      have hv : v < 0 := by
        rcases Int.lt_or_le v 0 with z | z
        · exact z
        · have := sgn_nn z
          omega
      have key := r57 (m - (V : Int) % m) (some (.long (jL ((V : Int) % m)))) none x4 (by rw [hneg hv, if_neg (by omega)])
      rw [← jL_sub, ← jI_L (a := m) (by omega) (by omega)] at key
      exact key
  have loop : ∀ (k : Nat) (kI : Int32) (rL : Int64), k ≤ n → kI = jI ((k : Int) - 1) → rL = jL (((V / 4294967296 ^ k : Nat) : Int) % m) → Run 10 [some (.ref w), some (.int (jI m)), some (.long rL), none, some (.int kI)] [] h (0, 0) := by
    intro k
    induction k with
    | zero =>
      rintro kI rL hk rfl rfl
      refine hR 40 7 _ _ _ _ _ _ rfl ?_
      refine ⟨fun c => ?_, fun c => absurd (by decide) c⟩
      rw [Nat.pow_zero, Nat.div_one]
      exact r36 _
    | succ k ih =>
      rintro kI rL hk rfl rfl
      have ek : ((k + 1 : Nat) : Int) - 1 = (k : Nat) := by omega
      rw [ek]
      have hmd := mag_div (h.1 (w + 1)) n k (by omega)
      rw [← a4] at hmd
      generalize V / 4294967296 ^ (k + 1) = Q at hmd
      generalize V / 4294967296 ^ k = R at hmd ih
      have hwl := wd_lt (h.1 (w + 1) k)
      have hq0 : 0 ≤ (Q : Int) % m := Int.emod_nonneg _ (by omega)
      have hq1 : (Q : Int) % m < m := Int.emod_lt_of_pos _ hm.1
      refine hR 40 7 _ _ _ _ _ _ rfl ?_
      refine ⟨fun c => ?_, fun c => ?_⟩
      · simp (disch := omega) only [mj_lcm, jI_lt, jI_le, jI_eq, jL_lt, jL_le, jL_eq, jI_lt0, jI_0le, jI_0lt, jI_le0, jI_eq0, jL_eq0, jI_L, jI_add, jI_sub, jI_mul, jI_neg, jL_add, jL_sub, jL_mul, jL_neg, jL_I, jI_div, jI_mod, jL_div, jL_mod] at c
        omega
      · refine ⟨a0.1, jcall (ct_32 G a0 (k := (k : Nat)) (by omega) (by omega)) ?_⟩
        rw [Int.toNat_natCast]
        have eor : jL ((Q : Int) % m) <<< ((jI 32).toInt64 &&& 63) ||| jL ((wd (h.1 (w + 1) k) : Nat) : Int) = jL ((Q : Int) % m * 4294967296 + wd (h.1 (w + 1) k)) := by
          rw [jL_shl (K := 32) 32 (by decide) rfl, jL_or (by decide) (by omega) (by rw [show (2 : Int) ^ 32 = 4294967296 from rfl]; omega)]
          rfl
        refine ⟨?_, ?_⟩
        · rw [jI_L (by omega) (by omega)]
          simp (disch := omega) only [mj_lcm, jI_lt, jI_le, jI_eq, jL_lt, jL_le, jL_eq, jI_lt0, jI_0le, jI_0lt, jI_le0, jI_eq0, jL_eq0, jI_L, jI_add, jI_sub, jI_mul, jI_neg, jL_add, jL_sub, jL_mul, jL_neg, jL_I, jI_div, jI_mod, jL_div, jL_mod]
          omega
        · refine ih _ _ (by omega) ?_ ?_
          · rw [jI_add]
            congr 1
          · rw [show hI h (w + 1) k = h.1 (w + 1) k from rfl, eor, jI_L (by omega) (by omega), jL_mod (by omega) (by omega) (by omega) (by omega), Int.tmod_eq_emod_of_nonneg (by omega), hmd]
            rw [emod_step, Int.natCast_add, Int.natCast_mul, show ((4294967296 : Nat) : Int) = 4294967296 from rfl]
  refine hR 40 0 _ _ _ _ _ _ rfl ?_
  refine ⟨a0.1, ?_⟩
  rw [a2]
  refine loop n _ _ (Nat.le_refl _) (jI_sub _ _) ?_
  have hlt := mag_lt (h.1 (w + 1)) n
  rw [Nat.div_eq_of_lt (by rw [a4]; exact hlt)]
  rfl
