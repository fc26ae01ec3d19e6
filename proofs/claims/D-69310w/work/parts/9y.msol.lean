/-! the model: one solution below 0, its best one, and the list of them -/
/-- the turn of the form f below 0: by the unit of three or of four -/
def auZ (d : Int) (f : Fm) (z : zI) : zI := (((if d = -3 then 1 else 0) - f.2.1).tdiv 2 * z.1 - f.2.2 * z.2, f.1 * z.1 + ((if d = -3 then 1 else 0) + f.2.1).tdiv 2 * z.2)
noncomputable def offZ (b z : zI) : zI := @ite _ (btZ (trn z) b) (Classical.propDecidable _) (trn z) b
/-- the best one of a solution's orbit -/
noncomputable def solZ (d : Int) (f : Fm) (z : zI) : zI := if -5 < d then offZ (offZ (trn z) (auZ d f z)) (auZ d f (auZ d f z)) else trn z
/-- the solutions that are kept, and how many were too many -/
abbrev xS : Type := List zI × Nat
noncomputable def putX (s : xS) (z : zI) : xS := @ite _ (z ∈ s.1) (Classical.propDecidable _) s (if s.1.length < 256 ∧ s.2 = 0 then (s.1 ++ [z], 0) else (s.1, s.2 + 1))
def isXs (h : mj_H) (s : xS) : Prop := hI h 1412 40 = jI ((s.1.length + s.2 : Nat) : Int) ∧ (s.1.length ≤ 256 ∧ (s.2 ≠ 0 → s.1.length = 256)) ∧ ∀ i z, s.1[i]? = some z → hJ h 1437 i = jL z.1 ∧ hJ h 1438 i = jL z.2 ∧ (-4611686018427387904 < z.1 ∧ z.1 < 4611686018427387904) ∧ -4611686018427387904 < z.2 ∧ z.2 < 4611686018427387904
theorem isXs.M {I J S : Nat → Prop} {h h' : mj_H} (f : FrM I J S h h') {s : xS} (a : isXs h s) (h1 : ¬ I 40) (h2 : ¬ S 1437 ∧ ¬ S 1438) : isXs h' s := ⟨(f.2.2.1 40 h1).trans a.1, a.2.1, fun i z hz => ⟨(f.J (by decide) h2.1 _).trans (a.2.2 i z hz).1, (f.J (by decide) h2.2 _).trans (a.2.2 i z hz).2.1, (a.2.2 i z hz).2.2⟩⟩
def bd62 (z : zI) : Prop := (-4611686018427387904 < z.1 ∧ z.1 < 4611686018427387904) ∧ -4611686018427387904 < z.2 ∧ z.2 < 4611686018427387904
def isBo (h : mj_H) : Prop := ∃ b, isBq h b ∧ bd62 b
theorem trn_bd {z : zI} (h : bd62 z) : bd62 (trn z) ∧ 0 ≤ (trn z).2 := by
  obtain ⟨⟨a1, a2⟩, a3, a4⟩ := h
  unfold trn
  split
  · exact ⟨⟨⟨a1, a2⟩, a3, a4⟩, by omega⟩
  · refine ⟨⟨⟨?_, ?_⟩, ?_, ?_⟩, ?_⟩ <;> simp only <;> omega
theorem offZ_bd {b z : zI} (hb : bd62 b ∧ 0 ≤ b.2) (hz : bd62 z) : bd62 (offZ b z) ∧ 0 ≤ (offZ b z).2 := by
  unfold offZ
  by_cases q : btZ (trn z) b
  · rw [if_pos q]
    exact trn_bd hz
  · rw [if_neg q]
    exact hb
theorem ct_230a (G : mj_G) {h : mj_H} (L : isLam h) {z : zI} (hz : bd62 z) (hb : isBo h) : mj_Ct G (mj_mt 230) 0 0 [.ref 1412, .long (jL z.1), .long (jL z.2), .int (jI 1)] h (fun o h' => o = .returned none ∧ isBq h' (trn z) ∧ FrM noT jBe noT h h') := by
  obtain ⟨b, b1, b2⟩ := hb
  refine mj_Ct_mono (ct_230 G L hz.1 hz.2 b1 b2 (fst := true) (fun q => absurd q (by decide))) ?_
  rintro o h' ⟨o1, ⟨c, c1, (⟨c2, -⟩ | ⟨-, c3, -⟩)⟩, F⟩
  · rw [c2] at c1
    exact ⟨o1, c1, F⟩
  · exact absurd c3 (by decide)
theorem ct_230b (G : mj_G) {h : mj_H} (L : isLam h) {z b : zI} (hz : bd62 z) (hb : isBq h b) (hbb : bd62 b ∧ 0 ≤ b.2) : mj_Ct G (mj_mt 230) 0 0 [.ref 1412, .long (jL z.1), .long (jL z.2), .int (jI 0)] h (fun o h' => o = .returned none ∧ isBq h' (offZ b z) ∧ FrM noT jBe noT h h') := by
  refine mj_Ct_mono (ct_230 G L hz.1 hz.2 hb hbb.1 (fst := false) (fun _ => hbb.2)) ?_
  rintro o h' ⟨o1, ⟨c, c1, c2⟩, F⟩
  refine ⟨o1, ?_, F⟩
  have e : c = offZ b z := by
    unfold offZ
    rcases c2 with ⟨c3, c4 | c4⟩ | ⟨c3, -, c4⟩
    · exact absurd c4 (by decide)
    · rw [if_pos c4]
      exact c3
    · rw [if_neg c4]
      exact c3
  rw [← e]
  exact c1
abbrev iSo (k : Nat) : Prop := k = 40
abbrev sSo (c : Nat) : Prop := c = 1437 ∨ c = 1438
abbrev l229 (z : zI) (x5 x6 x7 x8 x9 x10 x11 x12 x13 : Option Value) : mj_Ls := [some (.ref 1412), some (.long (jL z.1)), none, some (.long (jL z.2)), none, x5, x6, x7, x8, x9, x10, x11, x12, x13]
abbrev z229 (x : Int64) (y : Int64) (z : zI) (x9 x10 x11 x12 x13 : Option Value) : mj_Ls := l229 z (some (.long x)) none (some (.long y)) none x9 x10 x11 x12 x13
/-- FormHouseModel.solution(JJ)V; cuts at [3, 6, 14, 19, 34, 39, 43, 49, 58, 69, 73, 74, 76, 79, 85, 96, 120, 144, 148, 157, 163, 166, 175, 183, 198, 214, 220, 230, 243, 256] -/
def cl_229_5 : List mj_E := (230, true, .aload_n 0, 1, 0, 0, 0, 0, 0) ::
  (231, false, .getfield 104, 3, 17, 45, 2, 0, 0) ::
  (234, false, .aload_n 0, 1, 0, 0, 0, 0, 0) ::
  (235, false, .getfield 370, 3, 17, 40, 0, 0, 0) ::
  (238, false, .aload_n 0, 1, 0, 0, 0, 0, 0) ::
  (239, false, .getfield 394, 3, 17, 54, 1, 0, 0) ::
  (242, false, .lastore, 1, 0, 0, 0, 0, 0) ::
  (243, true, .aload_n 0, 1, 0, 0, 0, 0, 0) ::
  (244, false, .getfield 107, 3, 17, 46, 2, 0, 0) ::
  (247, false, .aload_n 0, 1, 0, 0, 0, 0, 0) ::
  (248, false, .getfield 370, 3, 17, 40, 0, 0, 0) ::
  (251, false, .aload_n 0, 1, 0, 0, 0, 0, 0) ::
  (252, false, .getfield 391, 3, 17, 55, 1, 0, 0) ::
  (255, false, .lastore, 1, 0, 0, 0, 0, 0) ::
  (256, true, .aload_n 0, 1, 0, 0, 0, 0, 0) ::
  (257, false, .dup, 1, 0, 0, 0, 0, 0) ::
  (258, false, .getfield 370, 3, 17, 40, 0, 0, 0) ::
  (261, false, .iconst 1, 1, 0, 0, 0, jI 1, 0) ::
  (262, false, .iadd, 1, 0, 0, 0, 0, 0) ::
  (263, false, .putfield 370, 3, 17, 40, 0, 0, 0) ::
  (266, false, .return_, 1, 0, 0, 0, 0, 0) ::
  []
def cl_229_4 : List mj_E := (180, false, .if_icmp .ge 40, 3, 116, 0, 0, 0, 0) ::
  (183, true, .aload_n 0, 1, 0, 0, 0, 0, 0) ::
  (184, false, .getfield 104, 3, 17, 45, 2, 0, 0) ::
  (187, false, .iload 11, 2, 0, 0, 0, 0, 0) ::
  (189, false, .laload, 1, 0, 0, 0, 0, 0) ::
  (190, false, .aload_n 0, 1, 0, 0, 0, 0, 0) ::
  (191, false, .getfield 394, 3, 17, 54, 1, 0, 0) ::
  (194, false, .lcmp, 1, 0, 0, 0, 0, 0) ::
  (195, false, .ifCond .ne 19, 3, 114, 0, 0, 0, 0) ::
  (198, true, .aload_n 0, 1, 0, 0, 0, 0, 0) ::
  (199, false, .getfield 107, 3, 17, 46, 2, 0, 0) ::
  (202, false, .iload 11, 2, 0, 0, 0, 0, 0) ::
  (204, false, .laload, 1, 0, 0, 0, 0, 0) ::
  (205, false, .aload_n 0, 1, 0, 0, 0, 0, 0) ::
  (206, false, .getfield 391, 3, 17, 55, 1, 0, 0) ::
  (209, false, .lcmp, 1, 0, 0, 0, 0, 0) ::
  (210, false, .ifCond .ne 4, 3, 114, 0, 0, 0, 0) ::
  (213, false, .return_, 1, 0, 0, 0, 0, 0) ::
  (214, true, .iinc 11 1, 3, 0, 0, 0, jI 1, 0) ::
  (217, false, .goto (-51), 3, 90, 0, 0, 0, 0) ::
  (220, true, .aload_n 0, 1, 0, 0, 0, 0, 0) ::
  (221, false, .getfield 370, 3, 17, 40, 0, 0, 0) ::
  (224, false, .sipush 256, 3, 0, 0, 0, jI 256, 0) ::
  (227, false, .if_icmp .ge 29, 3, 134, 0, 0, 0, 0) ::
  cl_229_5
def cl_229_3 : List mj_E := (133, false, .ladd, 1, 0, 0, 0, 0, 0) ::
  (134, false, .ldc2_w 130, 3, 0, 0, 0, 0, jL 2) ::
  (137, false, .ldiv, 1, 0, 0, 0, 0, 0) ::
  (138, false, .lload 7, 2, 0, 0, 0, 0, 0) ::
  (140, false, .lmul, 1, 0, 0, 0, 0, 0) ::
  (141, false, .ladd, 1, 0, 0, 0, 0, 0) ::
  (142, false, .lstore 7, 2, 0, 0, 0, 0, 0) ::
  (144, true, .lload 12, 2, 0, 0, 0, 0, 0) ::
  (146, false, .lstore 5, 2, 0, 0, 0, 0, 0) ::
  (148, true, .aload_n 0, 1, 0, 0, 0, 0, 0) ::
  (149, false, .lload 5, 2, 0, 0, 0, 0, 0) ::
  (151, false, .lload 7, 2, 0, 0, 0, 0, 0) ::
  (153, false, .iconst 0, 1, 0, 0, 0, jI 0, 0) ::
  (154, false, .invokevirtual 397, 3, 230, 3, 17, 0, 0) ::
  (157, true, .iinc 11 1, 3, 0, 0, 0, jI 1, 0) ::
  (160, false, .goto (-81), 3, 43, 0, 0, 0, 0) ::
  (163, true, .iconst 0, 1, 0, 0, 0, jI 0, 0) ::
  (164, false, .istore 11, 2, 0, 0, 0, 0, 0) ::
  (166, true, .iload 11, 2, 0, 0, 0, 0, 0) ::
  (168, false, .aload_n 0, 1, 0, 0, 0, 0, 0) ::
  (169, false, .getfield 370, 3, 17, 40, 0, 0, 0) ::
  (172, false, .if_icmp .ge 48, 3, 116, 0, 0, 0, 0) ::
  (175, true, .iload 11, 2, 0, 0, 0, 0, 0) ::
  (177, false, .sipush 256, 3, 0, 0, 0, jI 256, 0) ::
  cl_229_4
def cl_229_2 : List mj_E := (89, false, .ldc2_w 401, 3, 0, 0, 0, 0, jL (-5)) ::
  (92, false, .lcmp, 1, 0, 0, 0, 0, 0) ::
  (93, false, .ifCond .le 70, 3, 88, 0, 0, 0, 0) ::
  (96, true, .lload 9, 2, 0, 0, 0, 0, 0) ::
  (98, false, .aload_n 0, 1, 0, 0, 0, 0, 0) ::
  (99, false, .getfield 285, 3, 17, 21, 1, 0, 0) ::
  (102, false, .lsub, 1, 0, 0, 0, 0, 0) ::
  (103, false, .ldc2_w 130, 3, 0, 0, 0, 0, jL 2) ::
  (106, false, .ldiv, 1, 0, 0, 0, 0, 0) ::
  (107, false, .lload 5, 2, 0, 0, 0, 0, 0) ::
  (109, false, .lmul, 1, 0, 0, 0, 0, 0) ::
  (110, false, .aload_n 0, 1, 0, 0, 0, 0, 0) ::
  (111, false, .getfield 58, 3, 17, 22, 1, 0, 0) ::
  (114, false, .lload 7, 2, 0, 0, 0, 0, 0) ::
  (116, false, .lmul, 1, 0, 0, 0, 0, 0) ::
  (117, false, .lsub, 1, 0, 0, 0, 0, 0) ::
  (118, false, .lstore 12, 2, 0, 0, 0, 0, 0) ::
  (120, true, .aload_n 0, 1, 0, 0, 0, 0, 0) ::
  (121, false, .getfield 55, 3, 17, 20, 1, 0, 0) ::
  (124, false, .lload 5, 2, 0, 0, 0, 0, 0) ::
  (126, false, .lmul, 1, 0, 0, 0, 0, 0) ::
  (127, false, .lload 9, 2, 0, 0, 0, 0, 0) ::
  (129, false, .aload_n 0, 1, 0, 0, 0, 0, 0) ::
  (130, false, .getfield 285, 3, 17, 21, 1, 0, 0) ::
  cl_229_3
def cl_229_1 : List mj_E := (41, false, .lstore 7, 2, 0, 0, 0, 0, 0) ::
  (43, true, .iinc 9 (-1), 3, 0, 0, 0, jI (-1), 0) ::
  (46, false, .goto (-32), 3, 9, 0, 0, 0, 0) ::
  (49, true, .aload_n 0, 1, 0, 0, 0, 0, 0) ::
  (50, false, .lload 5, 2, 0, 0, 0, 0, 0) ::
  (52, false, .lload 7, 2, 0, 0, 0, 0, 0) ::
  (54, false, .iconst 1, 1, 0, 0, 0, jI 1, 0) ::
  (55, false, .invokevirtual 397, 3, 230, 3, 17, 0, 0) ::
  (58, true, .aload_n 0, 1, 0, 0, 0, 0, 0) ::
  (59, false, .getfield 9, 3, 17, 1, 1, 0, 0) ::
  (62, false, .ldc2_w 272, 3, 0, 0, 0, 0, jL (-3)) ::
  (65, false, .lcmp, 1, 0, 0, 0, 0, 0) ::
  (66, false, .ifCond .ne 7, 3, 39, 0, 0, 0, 0) ::
  (69, true, .lconst 1, 1, 0, 0, 0, 0, jL 1) ::
  (70, false, .goto 4, 3, 40, 0, 0, 0, 0) ::
  (73, true, .lconst 0, 1, 0, 0, 0, 0, jL 0) ::
  (74, true, .lstore 9, 2, 0, 0, 0, 0, 0) ::
  (76, true, .iconst 0, 1, 0, 0, 0, jI 0, 0) ::
  (77, false, .istore 11, 2, 0, 0, 0, 0, 0) ::
  (79, true, .iload 11, 2, 0, 0, 0, 0, 0) ::
  (81, false, .iconst 2, 1, 0, 0, 0, jI 2, 0) ::
  (82, false, .if_icmp .ge 81, 3, 88, 0, 0, 0, 0) ::
  (85, true, .aload_n 0, 1, 0, 0, 0, 0, 0) ::
  (86, false, .getfield 9, 3, 17, 1, 1, 0, 0) ::
  cl_229_2
def cl_229_0 : List mj_E := (0, false, .lload_n 1, 1, 0, 0, 0, 0, 0) ::
  (1, false, .lstore 5, 2, 0, 0, 0, 0, 0) ::
  (3, true, .lload_n 3, 1, 0, 0, 0, 0, 0) ::
  (4, false, .lstore 7, 2, 0, 0, 0, 0, 0) ::
  (6, true, .aload_n 0, 1, 0, 0, 0, 0, 0) ::
  (7, false, .getfield 294, 3, 17, 24, 0, 0, 0) ::
  (10, false, .iconst 1, 1, 0, 0, 0, jI 1, 0) ::
  (11, false, .isub, 1, 0, 0, 0, 0, 0) ::
  (12, false, .istore 9, 2, 0, 0, 0, 0, 0) ::
  (14, true, .iload 9, 2, 0, 0, 0, 0, 0) ::
  (16, false, .ifCond .lt 33, 3, 27, 0, 0, 0, 0) ::
  (19, true, .lload 5, 2, 0, 0, 0, 0, 0) ::
  (21, false, .aload_n 0, 1, 0, 0, 0, 0, 0) ::
  (22, false, .getfield 61, 3, 17, 25, 2, 0, 0) ::
  (25, false, .iload 9, 2, 0, 0, 0, 0, 0) ::
  (27, false, .laload, 1, 0, 0, 0, 0, 0) ::
  (28, false, .lload 7, 2, 0, 0, 0, 0, 0) ::
  (30, false, .lmul, 1, 0, 0, 0, 0, 0) ::
  (31, false, .ladd, 1, 0, 0, 0, 0, 0) ::
  (32, false, .lstore 10, 2, 0, 0, 0, 0, 0) ::
  (34, true, .lload 7, 2, 0, 0, 0, 0, 0) ::
  (36, false, .lneg, 1, 0, 0, 0, 0, 0) ::
  (37, false, .lstore 5, 2, 0, 0, 0, 0, 0) ::
  (39, true, .lload 10, 2, 0, 0, 0, 0, 0) ::
  cl_229_1
def cd_229 : List mj_E := cl_229_0
def cx_229 : mj_X := (0, [], [])
theorem tb_229 : mj_tab (mj_mt 229) cx_229 cd_229 mj_mh [(0, 0, 0), (0, 0, 0), (0, 0, 0), (0, 0, 0), (0, 0, 0), (7123, 0, 0), (0, 0, 0), (0, 0, 0), (0, 0, 0), (0, 0, 0), (0, 0, 0), (0, 0, 0), (0, 0, 0), (7124, 0, 0), (0, 0, 0), (0, 0, 0), (0, 0, 0), (0, 0, 0), (0, 0, 0), (0, 0, 0), (0, 0, 0), (0, 0, 0), (0, 0, 0), (0, 0, 0), (0, 0, 0), (0, 0, 0), (0, 0, 0), (0, 0, 0), (0, 0, 0), (0, 0, 0), (0, 0, 0), (8067, 0, 0), (0, 0, 0), (7100, 0, 0), (7066, 0, 0), (0, 0, 0), (0, 0, 0), (0, 0, 0), (0, 0, 0), (0, 0, 0), (0, 0, 0), (0, 0, 0), (0, 0, 0), (0, 0, 0), (0, 0, 0), (0, 0, 0), (0, 0, 0), (7100, 0, 0), (8071, 0, 0), (0, 0, 0), (0, 0, 0), (0, 0, 0), (0, 0, 0), (7120, 0, 0), (0, 0, 0), (6218, 0, 0), (0, 0, 0), (0, 0, 0), (0, 0, 0), (0, 0, 0), (7121, 0, 0), (0, 0, 0), (0, 0, 0), (0, 0, 0), (0, 0, 0), (0, 0, 0), (7119, 0, 0), (0, 0, 0), (0, 0, 0), (0, 0, 0), (0, 0, 0), (7120, 0, 0), (0, 0, 0), (6218, 0, 0), (0, 0, 0), (0, 0, 0), (0, 0, 0), (0, 0, 0), (0, 0, 0), (0, 0, 0), (0, 0, 0), (0, 0, 0), (0, 0, 0), (0, 0, 0), (0, 0, 0), (8067, 0, 0), (0, 0, 0), (0, 0, 0), (0, 0, 0), (0, 0, 0), (0, 0, 0), (0, 0, 0), (7139, 0, 0), (0, 0, 0), (0, 0, 0), (0, 0, 0), (0, 0, 0), (0, 0, 0), (7144, 0, 0), (0, 0, 0), (0, 0, 0), (0, 0, 0), (7153, 0, 0), (0, 0, 0), (0, 0, 0), (0, 0, 0), (7145, 0, 0), (0, 0, 0), (0, 0, 0), (0, 0, 0), (7154, 0, 0), (0, 0, 0), (0, 0, 0), (0, 0, 0), (0, 0, 0), (0, 0, 0), (0, 0, 0), (7139, 0, 0), (0, 0, 0), (0, 0, 0), (0, 0, 0), (7144, 0, 0), (0, 0, 0), (7139, 0, 0), (0, 0, 0), (7153, 0, 0), (0, 0, 0), (0, 0, 0), (7145, 0, 0), (0, 0, 0), (7139, 0, 0), (0, 0, 0), (7154, 0, 0), (0, 0, 0), (0, 0, 0), (0, 0, 0), (7139, 0, 0), (0, 0, 0), (0, 0, 0), (7139, 0, 0), (0, 0, 0)] = true := mj_tab_f (by decide +kernel)
theorem ct_229 (G : mj_G) {h : mj_H} (L : isLam h) {d w : Int} (hw : isMw h d w) (hd : -1048576 ≤ d ∧ d < 0) {f : Fm} (hf : hJ h 1412 20 = jL f.1 ∧ hJ h 1412 21 = jL f.2.1 ∧ hJ h 1412 22 = jL f.2.2) (hfb : -1073741824 ≤ f.2.1 ∧ f.2.1 ≤ 1073741824) {m : Nat} {an : Nat → Int} (hm : m ≤ 200) (e24 : hI h 1412 24 = jI m) (han : ∀ i, i < m → hJ h 1423 i = jL (an i)) {z0 : zI} (b1 : bd62 (abk an m z0)) (b2 : -5 < d → bd62 (auZ d f (abk an m z0)) ∧ bd62 (auZ d f (auZ d f (abk an m z0)))) (hb : isBo h) {s : xS} (hs : isXs h s) (hs4 : s.1.length + s.2 < 1000000) : mj_Ct G (mj_mt 229) 0 0 [.ref 1412, .long (jL z0.1), .long (jL z0.2)] h (fun oc h' => oc = .returned none ∧ isXs h' (putX s (solZ d f (abk an m z0))) ∧ isBo h' ∧ FrM iSo jBe sSo h h') := by
  obtain ⟨z1, hz1⟩ : ∃ z1, z1 = abk an m z0 := ⟨_, rfl⟩
  rw [← hz1] at b1 b2 ⊢
  obtain ⟨sv, hsv⟩ : ∃ sv : Int, sv = if d = -3 then 1 else 0 := ⟨_, rfl⟩
  have hsvb : 0 ≤ sv ∧ sv ≤ 1 := by
    rw [hsv]
    split <;> omega
  have hau : ∀ z, auZ d f z = ((sv - f.2.1).tdiv 2 * z.1 - f.2.2 * z.2, f.1 * z.1 + (sv + f.2.1).tdiv 2 * z.2) := fun z => by
    rw [hsv]
    rfl
  have hFf : ∀ {h' : mj_H}, FrM iSo jBe sSo h h' → hJ h' 1412 20 = jL f.1 ∧ hJ h' 1412 21 = jL f.2.1 ∧ hJ h' 1412 22 = jL f.2.2 ∧ isMw h' d w := fun F => ⟨(F.2.2.2 20 (by omega)).trans hf.1, (F.2.2.2 21 (by omega)).trans hf.2.1, (F.2.2.2 22 (by omega)).trans hf.2.2, hw.M F (by omega) (by omega)⟩
  have up : ∀ {h1 h2 : mj_H}, FrM noT jBe noT h1 h2 → FrM iSo jBe sSo h1 h2 := fun F => F.mono (fun _ z => z.elim) (fun _ z => z) (fun _ z => z.elim)
  refine mj_Ct_of mj_ok tb_229 rfl rfl (Nat.le_of_ble_eq_true rfl) (fun Run hR => ?_)
  have fin : ∀ (z : zI) (h' : mj_H) (x5 x6 x7 x8 x9 x10 x11 x12 x13 : Option Value) (xL yL sL : Int64), z = solZ d f z1 → bd62 z → isBq h' z → isXs h' s → FrM iSo jBe sSo h h' → Run 163 (z229 xL yL z0 (some (.long sL)) none x11 x12 x13) [] h' (0, 0) := by
    intro z h' _ _ _ _ _ _ x11 x12 x13 xL yL sL hz hzb hbq hs' F
    have L' := F.lay L
    obtain ⟨s1, ⟨s2, s3⟩, s4⟩ := hs'
    obtain ⟨⟨zb1, zb2⟩, zb3, zb4⟩ := id hzb
    -- it's not among those that are kept
    have r256 : ∀ (h3 : mj_H) (x11 : Option Value), hI h3 1412 40 = jI ((s.1.length + s.2 : Nat) : Int) → (s.1.length < 256 ∧ s.2 = 0 → ∀ i t, (s.1 ++ [z])[i]? = some t → hJ h3 1437 i = jL t.1 ∧ hJ h3 1438 i = jL t.2) → (¬ (s.1.length < 256 ∧ s.2 = 0) → ∀ i t, s.1[i]? = some t → hJ h3 1437 i = jL t.1 ∧ hJ h3 1438 i = jL t.2) → ¬ z ∈ s.1 → isBq h3 z → FrM iSo jBe sSo h h3 → Run 256 (z229 xL yL z0 (some (.long sL)) none x11 x12 x13) [] h3 (0, 0) := by
      intro h3 x11 e40 hA hB hnm hq3 F3
      have k3 := (F3.lay L).K 1412 rfl
      have ep : putX s z = if s.1.length < 256 ∧ s.2 = 0 then (s.1 ++ [z], 0) else (s.1, s.2 + 1) := by
        unfold putX
        rw [if_neg hnm]
      refine hR 60 134 _ _ _ _ _ _ rfl ?_
      refine ⟨k3, k3, rfl, ?_, ⟨z, hq3, hzb⟩, F3.fI (k := 40) rfl _⟩
      rw [← hz, ep]
      by_cases q : s.1.length < 256 ∧ s.2 = 0
      · rw [if_pos q]
        refine ⟨?_, ⟨?_, fun c => absurd rfl c⟩, fun i t ht => ⟨(hA q i t ht).1, (hA q i t ht).2, ?_⟩⟩
        · rw [sI_at, e40, jI_add, q.2]
          simp only [List.length_append, List.length_cons, List.length_nil]
          rfl
        · simp only [List.length_append, List.length_cons, List.length_nil]
          omega
        · rcases List.mem_append.1 (List.mem_of_getElem? ht) with y | y
          · obtain ⟨j, hj⟩ := List.getElem?_of_mem y
            exact (s4 j t hj).2.2
          · rw [List.mem_singleton.1 y]
            exact hzb
      · rw [if_neg q]
        refine ⟨?_, ⟨s2, fun _ => ?_⟩, fun i t ht => ⟨(hB q i t ht).1, (hB q i t ht).2, (s4 i t ht).2.2⟩⟩
        · rw [sI_at, e40, jI_add]
          rfl
        · by_cases q2 : s.2 = 0
          · show s.1.length = 256
            omega
          · exact s3 q2
    have r220 : ∀ (x11 : Option Value), ¬ z ∈ s.1 → Run 220 (z229 xL yL z0 (some (.long sL)) none x11 x12 x13) [] h' (0, 0) := by
      intro x11 hnm
      have r230 : s.1.length < 256 → s.2 = 0 → Run 230 (z229 xL yL z0 (some (.long sL)) none x11 x12 x13) [] h' (0, 0) := by
        intro q1 q2
        have nat : (hI h' 1412 40).toNatClampNeg = s.1.length := by rw [s1, q2, Nat.add_zero, jI_nat (by omega) (by omega), Int.toNat_natCast]
        have vin : ∀ {N : Nat}, N = 256 → vp_in (hI h' 1412 40) N := by
          rintro N rfl
          rw [s1, q2, Nat.add_zero]
          exact jI_in (by omega) (by omega) (by omega)
        have r243 : ∀ (h3 : mj_H), hI h3 1412 40 = hI h' 1412 40 → (∀ i t, (s.1 ++ [z])[i]? = some t → hJ h3 1437 i = jL t.1) → (∀ i t, s.1[i]? = some t → hJ h3 1438 i = jL t.2) → isBq h3 z → FrM iSo jBe sSo h h3 → Run 243 (z229 xL yL z0 (some (.long sL)) none x11 x12 x13) [] h3 (0, 0) := by
          intro h3 e40 hA hB hq3 F3
          have L3 := F3.lay L
          refine hR 60 127 _ _ _ _ _ _ rfl ?_
          refine ⟨L3.K 1412 rfl, _, L3.R 1412 46 _ rfl, L3.K 1412 rfl, L3.K 1412 rfl, L3.K 1438 rfl, ?_, ?_⟩
          · rw [e40]
            exact vin (L3.N 1437 rfl)
          · rw [e40, nat, hq3.2]
            refine r256 _ _ (e40.trans s1) (fun _ i t ht => ⟨hA i t ht, ?_⟩) (fun q => absurd ⟨q1, q2⟩ q) hnm hq3 (F3.aJ (c := 1438) (by omega) (by decide) _ _)
            by_cases e : i = s.1.length
            · subst e
              rw [List.getElem?_append_right (Nat.le_refl _), Nat.sub_self] at ht
              have h9 : some z = some t := ht
              rw [sJ_at, Option.some.inj h9]
            · have hil := lt_of_some ht
              simp only [List.length_append, List.length_cons, List.length_nil] at hil
              rw [List.getElem?_append_left (by omega)] at ht
              rw [sJ_k _ _ e]
              exact hB i t ht
        refine hR 60 120 _ _ _ _ _ _ rfl ?_
        refine ⟨L'.K 1412 rfl, _, L'.R 1412 45 _ rfl, L'.K 1412 rfl, L'.K 1412 rfl, L'.K 1437 rfl, vin (L'.N 1436 rfl), ?_⟩
        rw [nat, hbq.1]
        refine r243 _ rfl (fun i t ht => ?_) (fun i t ht => (s4 i t ht).2.1) hbq (F.aJ (c := 1437) (by omega) (by decide) _ _)
        by_cases e : i = s.1.length
        · subst e
          rw [List.getElem?_append_right (Nat.le_refl _), Nat.sub_self] at ht
          have h9 : some z = some t := ht
          rw [sJ_at, Option.some.inj h9]
        · have hil := lt_of_some ht
          simp only [List.length_append, List.length_cons, List.length_nil] at hil
          rw [List.getElem?_append_left (by omega)] at ht
          rw [sJ_k _ _ e]
          exact (s4 i t ht).1
      refine hR 60 116 _ _ _ _ _ _ rfl ?_
      refine ⟨L'.K 1412 rfl, fun c => ?_, fun c => ?_⟩
      · rw [s1] at c
        simp (disch := omega) only [mj_lcm, jI_lt, jI_le, jI_eq, jL_lt, jL_le, jL_eq, jI_lt0, jI_0le, jI_0lt, jI_le0, jI_eq0, jL_eq0, jI_L, jI_add, jI_sub, jI_mul, jI_neg, jL_add, jL_sub, jL_mul, jL_neg, jL_I, jI_div, jI_mod, jL_div, jL_mod] at c
        refine r256 h' _ s1 (fun q => ?_) (fun _ i t ht => ⟨(s4 i t ht).1, (s4 i t ht).2.1⟩) hnm hbq F
        omega
      · rw [s1] at c
        simp (disch := omega) only [mj_lcm, jI_lt, jI_le, jI_eq, jL_lt, jL_le, jL_eq, jI_lt0, jI_0le, jI_0lt, jI_le0, jI_eq0, jL_eq0, jI_L, jI_add, jI_sub, jI_mul, jI_neg, jL_add, jL_sub, jL_mul, jL_neg, jL_I, jI_div, jI_mod, jL_div, jL_mod] at c
        refine r230 (by omega) ?_
        by_cases q2 : s.2 = 0
        · exact q2
        · have := s3 q2
          omega
    have r166 : ∀ (q i : Nat) (iI : Int32), i + q = s.1.length → (∀ j t, j < i → s.1[j]? = some t → t ≠ z) → iI = jI i → Run 166 (z229 xL yL z0 (some (.long sL)) none (some (.int iI)) x12 x13) [] h' (0, 0) := by
      intro q
      induction q with
      | zero =>
        rintro i iI hi hne rfl
        have hnm : ¬ z ∈ s.1 := by
          intro hz'
          obtain ⟨j, hj⟩ := List.getElem?_of_mem hz'
          have := lt_of_some hj
          exact hne j z (by omega) hj rfl
        refine hR 60 90 _ _ _ _ _ _ rfl ?_
        refine ⟨L'.K 1412 rfl, fun c => r220 _ hnm, fun c => ?_⟩
        have r175 : Run 175 (z229 xL yL z0 (some (.long sL)) none (some (.int (jI i))) x12 x13) [] h' (0, 0) := by
          rw [s1] at c
          simp (disch := omega) only [mj_lcm, jI_lt, jI_le, jI_eq, jL_lt, jL_le, jL_eq, jI_lt0, jI_0le, jI_0lt, jI_le0, jI_eq0, jL_eq0, jI_L, jI_add, jI_sub, jI_mul, jI_neg, jL_add, jL_sub, jL_mul, jL_neg, jL_I, jI_div, jI_mod, jL_div, jL_mod] at c
          have h256 := s3 (by omega)
          refine hR 60 94 _ _ _ _ _ _ rfl ?_
          refine ⟨fun c2 => r220 _ hnm, fun c2 => ?_⟩
          simp (disch := omega) only [mj_lcm, jI_lt, jI_le, jI_eq, jL_lt, jL_le, jL_eq, jI_lt0, jI_0le, jI_0lt, jI_le0, jI_eq0, jL_eq0, jI_L, jI_add, jI_sub, jI_mul, jI_neg, jL_add, jL_sub, jL_mul, jL_neg, jL_I, jI_div, jI_mod, jL_div, jL_mod] at c2
          omega
        exact r175
      | succ q ih =>
        rintro i iI hi hne rfl
        have hil : i < s.1.length := by omega
        have het := List.getElem?_eq_getElem hil
        obtain ⟨t, ht⟩ : ∃ t, t = s.1[i] := ⟨_, rfl⟩
        rw [← ht] at het
        obtain ⟨t1, t2, t3⟩ := s4 i t het
        have nat : (jI (i : Int)).toNatClampNeg = i := by rw [jI_nat (by omega) (by omega), Int.toNat_natCast]
        have r214 : t ≠ z → Run 214 (z229 xL yL z0 (some (.long sL)) none (some (.int (jI i))) x12 x13) [] h' (0, 0) := by
          intro htz
          refine hR 60 114 _ _ _ _ _ _ rfl ?_
          refine ih (i + 1) _ (by omega) (fun j t' hj ht' => ?_) (by rw [jI_add]; rfl)
          by_cases e : j = i
          · subst e
            rw [het] at ht'
            rw [← Option.some.inj ht']
            exact htz
          · exact hne j t' (by omega) ht'
        have r198 : t.1 = z.1 → Run 198 (z229 xL yL z0 (some (.long sL)) none (some (.int (jI i))) x12 x13) [] h' (0, 0) := by
          intro e1
          refine hR 60 105 _ _ _ _ _ _ rfl ?_
          refine ⟨L'.K 1412 rfl, _, L'.R 1412 46 _ rfl, L'.K 1438 rfl, ?_, L'.K 1412 rfl, fun c => ?_, fun c => ?_⟩
          · rw [show hN h' 1438 = 256 from L'.N 1437 rfl]
            exact jI_in (by omega) (by omega) (by omega)
          · rw [nat, t2, hbq.2] at c
            simp (disch := omega) only [mj_lcm, jI_lt, jI_le, jI_eq, jL_lt, jL_le, jL_eq, jI_lt0, jI_0le, jI_0lt, jI_le0, jI_eq0, jL_eq0, jI_L, jI_add, jI_sub, jI_mul, jI_neg, jL_add, jL_sub, jL_mul, jL_neg, jL_I, jI_div, jI_mod, jL_div, jL_mod] at c
            have hmem : z ∈ s.1 := by
              have : t = z := Prod.ext e1 c
              rw [← this]
              exact List.mem_of_getElem? het
            refine ⟨rfl, ?_, ⟨z, hbq, hzb⟩, F⟩
            rw [← hz, show putX s z = s by unfold putX; rw [if_pos hmem]]
            exact ⟨s1, ⟨s2, s3⟩, s4⟩
          · rw [nat, t2, hbq.2] at c
            simp (disch := omega) only [mj_lcm, jI_lt, jI_le, jI_eq, jL_lt, jL_le, jL_eq, jI_lt0, jI_0le, jI_0lt, jI_le0, jI_eq0, jL_eq0, jI_L, jI_add, jI_sub, jI_mul, jI_neg, jL_add, jL_sub, jL_mul, jL_neg, jL_I, jI_div, jI_mod, jL_div, jL_mod] at c
            exact r214 (fun e => c (by rw [e]))
        have r183 : Run 183 (z229 xL yL z0 (some (.long sL)) none (some (.int (jI i))) x12 x13) [] h' (0, 0) := by
          refine hR 60 97 _ _ _ _ _ _ rfl ?_
          refine ⟨L'.K 1412 rfl, _, L'.R 1412 45 _ rfl, L'.K 1437 rfl, ?_, L'.K 1412 rfl, fun c => ?_, fun c => ?_⟩
          · rw [show hN h' 1437 = 256 from L'.N 1436 rfl]
            exact jI_in (by omega) (by omega) (by omega)
          · rw [nat, t1, hbq.1] at c
            simp (disch := omega) only [mj_lcm, jI_lt, jI_le, jI_eq, jL_lt, jL_le, jL_eq, jI_lt0, jI_0le, jI_0lt, jI_le0, jI_eq0, jL_eq0, jI_L, jI_add, jI_sub, jI_mul, jI_neg, jL_add, jL_sub, jL_mul, jL_neg, jL_I, jI_div, jI_mod, jL_div, jL_mod] at c
            exact r198 c
          · rw [nat, t1, hbq.1] at c
            simp (disch := omega) only [mj_lcm, jI_lt, jI_le, jI_eq, jL_lt, jL_le, jL_eq, jI_lt0, jI_0le, jI_0lt, jI_le0, jI_eq0, jL_eq0, jI_L, jI_add, jI_sub, jI_mul, jI_neg, jL_add, jL_sub, jL_mul, jL_neg, jL_I, jI_div, jI_mod, jL_div, jL_mod] at c
            exact r214 (fun e => c (by rw [e]))
        have r175 : Run 175 (z229 xL yL z0 (some (.long sL)) none (some (.int (jI i))) x12 x13) [] h' (0, 0) := by
          refine hR 60 94 _ _ _ _ _ _ rfl ?_
          refine ⟨fun c2 => ?_, fun c2 => r183⟩
          simp (disch := omega) only [mj_lcm, jI_lt, jI_le, jI_eq, jL_lt, jL_le, jL_eq, jI_lt0, jI_0le, jI_0lt, jI_le0, jI_eq0, jL_eq0, jI_L, jI_add, jI_sub, jI_mul, jI_neg, jL_add, jL_sub, jL_mul, jL_neg, jL_I, jI_div, jI_mod, jL_div, jL_mod] at c2
          omega
        refine hR 60 90 _ _ _ _ _ _ rfl ?_
        refine ⟨L'.K 1412 rfl, fun c => ?_, fun c => r175⟩
        rw [s1] at c
        simp (disch := omega) only [mj_lcm, jI_lt, jI_le, jI_eq, jL_lt, jL_le, jL_eq, jI_lt0, jI_0le, jI_0lt, jI_le0, jI_eq0, jL_eq0, jI_L, jI_add, jI_sub, jI_mul, jI_neg, jL_add, jL_sub, jL_mul, jL_neg, jL_I, jI_div, jI_mod, jL_div, jL_mod] at c
        omega
    refine hR 60 88 _ _ _ _ _ _ rfl ?_
    exact r166 s.1.length 0 _ (by omega) (fun j t hj => absurd hj (Nat.not_lt_zero _)) rfl
  -- the turns by the unit
  have r79 : ∀ (q i : Nat) (z b : zI) (iI : Int32) (xL yL : Int64) (h' : mj_H) (x12 x13 : Option Value), i + q = 2 → (-5 < d → (i = 0 → z = z1 ∧ b = trn z1) ∧ (i = 1 → z = auZ d f z1 ∧ b = offZ (trn z1) (auZ d f z1)) ∧ (i = 2 → b = solZ d f z1)) → (d ≤ -5 → i = 0 ∧ b = trn z1) → (bd62 b ∧ 0 ≤ b.2) → isBq h' b → isXs h' s → FrM iSo jBe sSo h h' → iI = jI i → xL = jL z.1 → yL = jL z.2 → Run 79 (z229 xL yL z0 (some (.long (jL sv))) none (some (.int iI)) x12 x13) [] h' (0, 0) := by
    intro q
    induction q with
    | zero =>
      rintro i z b iI xL yL h' x12 x13 hi hA hB hbb hbq hs' F rfl rfl rfl
      have hd5 : -5 < d := by
        apply Decidable.byContradiction
        intro c
        have := (hB (by omega)).1
        omega
      refine hR 60 43 _ _ _ _ _ _ rfl ?_
      refine ⟨fun c => ?_, fun c => ?_⟩
      · exact fin b h' none none none none none none _ _ _ _ _ _ ((hA hd5).2.2 (by omega)) hbb.1 hbq hs' F
      · simp (disch := omega) only [mj_lcm, jI_lt, jI_le, jI_eq, jL_lt, jL_le, jL_eq, jI_lt0, jI_0le, jI_0lt, jI_le0, jI_eq0, jL_eq0, jI_L, jI_add, jI_sub, jI_mul, jI_neg, jL_add, jL_sub, jL_mul, jL_neg, jL_I, jI_div, jI_mod, jL_div, jL_mod] at c
        omega
    | succ q ih =>
      rintro i z b iI xL yL h' x12 x13 hi hA hB hbb hbq hs' F rfl rfl rfl
      have L' := F.lay L
      obtain ⟨f1, f2, f3, fw⟩ := hFf F
      have r85 : Run 85 (z229 (jL z.1) (jL z.2) z0 (some (.long (jL sv))) none (some (.int (jI i))) x12 x13) [] h' (0, 0) := by
        refine hR 60 46 _ _ _ _ _ _ rfl ?_
        refine ⟨L'.K 1412 rfl, fun c => ?_, fun c => ?_⟩
        · simp only [mj_lcm, fw.1] at c
          simp (disch := omega) only [mj_lcm, jI_lt, jI_le, jI_eq, jL_lt, jL_le, jL_eq, jI_lt0, jI_0le, jI_0lt, jI_le0, jI_eq0, jL_eq0, jI_L, jI_add, jI_sub, jI_mul, jI_neg, jL_add, jL_sub, jL_mul, jL_neg, jL_I, jI_div, jI_mod, jL_div, jL_mod] at c
          refine fin b h' none none none none none none _ _ _ _ _ _ ?_ hbb.1 hbq hs' F
          rw [(hB (by omega)).2]
          unfold solZ
          rw [if_neg (by omega)]
        · simp only [mj_lcm, fw.1] at c
          simp (disch := omega) only [mj_lcm, jI_lt, jI_le, jI_eq, jL_lt, jL_le, jL_eq, jI_lt0, jI_0le, jI_0lt, jI_le0, jI_eq0, jL_eq0, jI_L, jI_add, jI_sub, jI_mul, jI_neg, jL_add, jL_sub, jL_mul, jL_neg, jL_I, jI_div, jI_mod, jL_div, jL_mod] at c
          have hd5 : -5 < d := by omega
          obtain ⟨B1, B2⟩ := b2 hd5
          have hzb : bd62 (auZ d f z) ∧ (i = 0 → z = z1) := by
            rcases (show i = 0 ∨ i = 1 by omega) with e | e
            · rw [((hA hd5).1 e).1]
              exact ⟨B1, fun _ => rfl⟩
            · rw [((hA hd5).2.1 e).1]
              exact ⟨B2, fun q => by omega⟩
          have r148 : ∀ (xL yL : Int64) (x12 x13 : Option Value), xL = jL (auZ d f z).1 → yL = jL (auZ d f z).2 → Run 148 (z229 xL yL z0 (some (.long (jL sv))) none (some (.int (jI i))) x12 x13) [] h' (0, 0) := by
            rintro xL yL x12 x13 rfl rfl
            have r157 : ∀ (h3 : mj_H), isBq h3 (offZ b (auZ d f z)) → FrM noT jBe noT h' h3 → Run 157 (z229 (jL (auZ d f z).1) (jL (auZ d f z).2) z0 (some (.long (jL sv))) none (some (.int (jI i))) x12 x13) [] h3 (0, 0) := by
              intro h3 q3 F3
              refine hR 60 86 _ _ _ _ _ _ rfl ?_
              refine ih (i + 1) (auZ d f z) (offZ b (auZ d f z)) _ _ _ h3 _ _ (by omega) (fun _ => ⟨fun e => by omega, fun e => ?_, fun e => ?_⟩) (fun c => by omega) (offZ_bd hbb hzb.1) q3 (hs'.M F3 (fun z => z) ⟨fun z => z, fun z => z⟩) (F.trans (up F3)) (by rw [jI_add]; rfl) rfl rfl
              · obtain ⟨y1, y2⟩ := (hA hd5).1 (by omega)
                rw [y1, y2]
                exact ⟨rfl, rfl⟩
              · obtain ⟨y1, y2⟩ := (hA hd5).2.1 (by omega)
                rw [y1, y2]
                unfold solZ
                rw [if_pos hd5]
            refine hR 60 81 _ _ _ _ _ _ rfl ?_
            refine ⟨L'.K 1412 rfl, jcallP (ct_230b G L' hzb.1 hbq hbb) ?_⟩
            rintro oc h3 ⟨rfl, q3, F3⟩
            exact r157 h3 q3 F3
          have r144 : ∀ (yL tL : Int64), tL = jL (auZ d f z).1 → yL = jL (auZ d f z).2 → Run 144 (z229 (jL z.1) yL z0 (some (.long (jL sv))) none (some (.int (jI i))) (some (.long tL)) none) [] h' (0, 0) := by
            intro yL tL e1 e2
            refine hR 60 79 _ _ _ _ _ _ rfl ?_
            exact r148 _ _ _ _ e1 e2
          have r120 : ∀ (tL : Int64), tL = jL (auZ d f z).1 → Run 120 (z229 (jL z.1) (jL z.2) z0 (some (.long (jL sv))) none (some (.int (jI i))) (some (.long tL)) none) [] h' (0, 0) := by
            intro tL e1
            refine hR 60 65 _ _ _ _ _ _ rfl ?_
            refine ⟨L'.K 1412 rfl, L'.K 1412 rfl, by decide, ?_⟩
            refine r144 _ _ e1 ?_
            rw [f1, f2, jL_add, jL_div (by omega) (by omega) (by omega) (by omega), jL_mul, jL_mul, jL_add, hau z]
          have r96 : Run 96 (z229 (jL z.1) (jL z.2) z0 (some (.long (jL sv))) none (some (.int (jI i))) x12 x13) [] h' (0, 0) := by
            refine hR 60 51 _ _ _ _ _ _ rfl ?_
            refine ⟨L'.K 1412 rfl, by decide, L'.K 1412 rfl, ?_⟩
            refine r120 _ ?_
            rw [f2, f3, jL_sub, jL_div (by omega) (by omega) (by omega) (by omega), jL_mul, jL_mul, jL_sub, hau z]
          exact r96
      refine hR 60 43 _ _ _ _ _ _ rfl ?_
      refine ⟨fun c => ?_, fun c => r85⟩
      simp (disch := omega) only [mj_lcm, jI_lt, jI_le, jI_eq, jL_lt, jL_le, jL_eq, jI_lt0, jI_0le, jI_0lt, jI_le0, jI_eq0, jL_eq0, jI_L, jI_add, jI_sub, jI_mul, jI_neg, jL_add, jL_sub, jL_mul, jL_neg, jL_I, jI_div, jI_mod, jL_div, jL_mod] at c
      omega
  have r58 : ∀ (x9 x10 x11 x12 x13 : Option Value) (xL yL : Int64) (h' : mj_H), isBq h' (trn z1) → isXs h' s → FrM iSo jBe sSo h h' → xL = jL z1.1 → yL = jL z1.2 → Run 58 (z229 xL yL z0 x9 x10 x11 x12 x13) [] h' (0, 0) := by
    intro x9 x10 x11 x12 x13 xL yL h' hbq hs' F ex ey
    obtain ⟨f1, f2, f3, fw⟩ := hFf F
    have r76 : ∀ (x11 x12 x13 : Option Value), Run 76 (z229 xL yL z0 (some (.long (jL sv))) none x11 x12 x13) [] h' (0, 0) := by
      intro x11 x12 x13
      refine hR 60 41 _ _ _ _ _ _ rfl ?_
      exact r79 2 0 z1 (trn z1) _ _ _ h' _ _ rfl (fun _ => ⟨fun _ => ⟨rfl, rfl⟩, fun e => absurd e (by decide), fun e => absurd e (by decide)⟩) (fun _ => ⟨rfl, rfl⟩) (trn_bd b1) hbq hs' F rfl ex ey
    have r74 : ∀ (sL : Int64) (x9 x10 x11 x12 x13 : Option Value), sL = jL sv → Run 74 (z229 xL yL z0 x9 x10 x11 x12 x13) [.long sL] h' (0, 0) := by
      rintro sL x9 x10 x11 x12 x13 rfl
      refine hR 60 40 _ _ _ _ _ _ rfl ?_
      exact r76 _ _ _
    refine hR 60 32 _ _ _ _ _ _ rfl ?_
    refine ⟨(F.lay L).K 1412 rfl, fun c => ?_, fun c => ?_⟩
    · rw [fw.1] at c
      simp (disch := omega) only [mj_lcm, jI_lt, jI_le, jI_eq, jL_lt, jL_le, jL_eq, jI_lt0, jI_0le, jI_0lt, jI_le0, jI_eq0, jL_eq0, jI_L, jI_add, jI_sub, jI_mul, jI_neg, jL_add, jL_sub, jL_mul, jL_neg, jL_I, jI_div, jI_mod, jL_div, jL_mod] at c
      have r69 : Run 69 (z229 xL yL z0 x9 x10 x11 x12 x13) [] h' (0, 0) := by
        refine hR 60 37 _ _ _ _ _ _ rfl ?_
        exact r74 _ _ _ _ _ _ (by rw [hsv, if_pos c])
      exact r69
    · rw [fw.1] at c
      simp (disch := omega) only [mj_lcm, jI_lt, jI_le, jI_eq, jL_lt, jL_le, jL_eq, jI_lt0, jI_0le, jI_0lt, jI_le0, jI_eq0, jL_eq0, jI_L, jI_add, jI_sub, jI_mul, jI_neg, jL_add, jL_sub, jL_mul, jL_neg, jL_I, jI_div, jI_mod, jL_div, jL_mod] at c
      have r73 : Run 73 (z229 xL yL z0 x9 x10 x11 x12 x13) [] h' (0, 0) := by
        refine hR 60 39 _ _ _ _ _ _ rfl ?_
        exact r74 _ _ _ _ _ _ (by rw [hsv, if_neg c])
      exact r73
  have r49 : ∀ (x9 x10 x11 x12 x13 : Option Value) (xL yL : Int64), xL = jL z1.1 → yL = jL z1.2 → Run 49 (z229 xL yL z0 x9 x10 x11 x12 x13) [] h (0, 0) := by
    rintro x9 x10 x11 x12 x13 xL yL rfl rfl
    refine hR 60 27 _ _ _ _ _ _ rfl ?_
    refine ⟨L.K 1412 rfl, jcallP (ct_230a G L b1 hb) ?_⟩
    rintro oc h3 ⟨rfl, q3, F3⟩
    exact r58 _ _ _ _ _ _ _ h3 q3 (hs.M F3 (fun z => z) ⟨fun z => z, fun z => z⟩) (up F3) rfl rfl
  have r14 : ∀ (k : Nat) (z : zI) (iI : Int32) (xL yL : Int64) (x10 x11 x12 x13 : Option Value), k ≤ m → abk an k z = z1 → iI = jI ((k : Int) - 1) → xL = jL z.1 → yL = jL z.2 → Run 14 (z229 xL yL z0 (some (.int iI)) x10 x11 x12 x13) [] h (0, 0) := by
    intro k
    induction k with
    | zero =>
      rintro z iI xL yL x10 x11 x12 x13 hk hz rfl rfl rfl
      have ez : z = z1 := hz
      refine hR 60 9 _ _ _ _ _ _ rfl ?_
      refine ⟨fun c => r49 _ _ _ _ _ _ _ (by rw [ez]) (by rw [ez]), fun c => absurd (by decide) c⟩
    | succ k ih =>
      rintro z iI xL yL x10 x11 x12 x13 hk hz rfl rfl rfl
      have ek : jI (((k + 1 : Nat) : Int) - 1) = jI (k : Int) := by
        congr 1
        omega
      rw [ek]
      have r43 : ∀ (xL yL : Int64) (x10 x11 : Option Value), xL = jL (bkZ (an k) z).1 → yL = jL (bkZ (an k) z).2 → Run 43 (z229 xL yL z0 (some (.int (jI k))) x10 x11 x12 x13) [] h (0, 0) := by
        intro xL yL x10 x11 e1 e2
        refine hR 60 25 _ _ _ _ _ _ rfl ?_
        exact ih (bkZ (an k) z) _ _ _ _ _ _ _ (by omega) hz (by rw [jI_add]; rfl) e1 e2
      have r39 : ∀ (xL tL yL : Int64), xL = jL (bkZ (an k) z).1 → tL = jL (bkZ (an k) z).2 → Run 39 (z229 xL yL z0 (some (.int (jI k))) (some (.long tL)) none x12 x13) [] h (0, 0) := by
        intro xL tL yL e1 e2
        refine hR 60 23 _ _ _ _ _ _ rfl ?_
        exact r43 _ _ _ _ e1 e2
      have r34 : ∀ (tL : Int64), tL = jL (bkZ (an k) z).2 → Run 34 (z229 (jL z.1) (jL z.2) z0 (some (.int (jI k))) (some (.long tL)) none x12 x13) [] h (0, 0) := by
        intro tL e2
        refine hR 60 20 _ _ _ _ _ _ rfl ?_
        exact r39 _ _ _ (by rw [jL_neg]; rfl) e2
      have r19 : Run 19 (z229 (jL z.1) (jL z.2) z0 (some (.int (jI k))) x10 x11 x12 x13) [] h (0, 0) := by
        refine hR 60 11 _ _ _ _ _ _ rfl ?_
        refine ⟨L.K 1412 rfl, _, L.R 1412 25 _ rfl, L.K 1423 rfl, ?_, ?_⟩
        · rw [show hN h 1423 = 200 from L.N 1422 rfl]
          exact jI_in (by omega) (by omega) (by omega)
        · refine r34 _ ?_
          rw [jI_nat (by omega) (by omega), Int.toNat_natCast, han k (by omega), jL_mul, jL_add]
          unfold bkZ
          congr 1
          omega
      refine hR 60 9 _ _ _ _ _ _ rfl ?_
      refine ⟨fun c => ?_, fun c => r19⟩
      simp (disch := omega) only [mj_lcm, jI_lt, jI_le, jI_eq, jL_lt, jL_le, jL_eq, jI_lt0, jI_0le, jI_0lt, jI_le0, jI_eq0, jL_eq0, jI_L, jI_add, jI_sub, jI_mul, jI_neg, jL_add, jL_sub, jL_mul, jL_neg, jL_I, jI_div, jI_mod, jL_div, jL_mod] at c
      omega
  have r6 : ∀ (x9 x10 x11 x12 x13 : Option Value), Run 6 (z229 (jL z0.1) (jL z0.2) z0 x9 x10 x11 x12 x13) [] h (0, 0) := by
    intro x9 x10 x11 x12 x13
    refine hR 60 4 _ _ _ _ _ _ rfl ?_
    refine ⟨L.K 1412 rfl, ?_⟩
    exact r14 m z0 _ _ _ _ _ _ _ (Nat.le_refl _) hz1.symm (by rw [e24, jI_sub]) rfl rfl
  have r3 : ∀ (x7 x8 x9 x10 x11 x12 x13 : Option Value), Run 3 (l229 z0 (some (.long (jL z0.1))) none x7 x8 x9 x10 x11 x12 x13) [] h (0, 0) := by
    intro x7 x8 x9 x10 x11 x12 x13
    refine hR 60 2 _ _ _ _ _ _ rfl ?_
    exact r6 _ _ _ _ _
  refine hR 60 0 _ _ _ _ _ _ rfl ?_
  exact r3 _ _ _ _ _ _ _
