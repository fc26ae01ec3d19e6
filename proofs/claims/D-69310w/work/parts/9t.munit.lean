/-! the model: the unit, by a fraction that comes again -/
theorem flip_l {ov : Int} {N k : Nat} (hk : k + 1 ≤ N) (hov : (ov = 0 ∧ (N - (k + 1)) % 2 = 0) ∨ (ov = 1 ∧ (N - (k + 1)) % 2 = 1)) : (1 - ov = 0 ∧ (N - k) % 2 = 0) ∨ (1 - ov = 1 ∧ (N - k) % 2 = 1) := by omega
abbrev uSt : Type := Int × Int × Int × Int
def uStep (d w : Int) (s : uSt) : uSt := ((s.1 + w).tdiv s.2.1 * s.2.1 - s.1, (d - ((s.1 + w).tdiv s.2.1 * s.2.1 - s.1) * ((s.1 + w).tdiv s.2.1 * s.2.1 - s.1)).tdiv s.2.1, (s.1 + w).tdiv s.2.1 * s.2.2.1 + s.2.2.2, s.2.2.1)
def uN (d w : Int) : Nat → uSt → uSt
  | 0, s => s
  | n + 1, s => uN d w n (uStep d w s)
def uBd (s : uSt) : Prop := (0 ≤ s.1 ∧ s.1 ≤ 4096) ∧ 0 < s.2.1 ∧ s.2.1 ≤ 4194304
/-- after n steps the first parts come again, and not before -/
def uT (d w first : Int) : Nat → uSt → Prop
  | 0, _ => False
  | n + 1, s => uBd s ∧ ((n = 0 ∧ (uStep d w s).1 = first ∧ (uStep d w s).2.1 = 2) ∨ (¬ ((uStep d w s).1 = first ∧ (uStep d w s).2.1 = 2) ∧ uT d w first n (uStep d w s)))
def uF (d w : Int) : Int := if (w - d).tmod 2 = 0 then w else w - 1
/-- the unit, that of -4, and whether there is one -/
def muP (d w : Int) (N : Nat) (t u x6 x7 mn : Int) : Prop :=
  (d < 0 → t = (if d = -3 then 1 else if d = -4 then 0 else 2) ∧ u = (if d = -3 ∨ d = -4 then 1 else 0) ∧ x6 = 0 ∧ x7 = 0 ∧ mn = 0) ∧
  (0 < d → uT d w (uF d w) N (uF d w, 2, 0, 1) ∧ (N % 2 = 0 → t = 2 * (uN d w N (uF d w, 2, 0, 1)).2.2.2 + uF d w * (uN d w N (uF d w, 2, 0, 1)).2.2.1 ∧ u = (uN d w N (uF d w, 2, 0, 1)).2.2.1 ∧ x6 = 0 ∧ x7 = 0 ∧ mn = 0) ∧
    (N % 2 = 1 → x6 = 2 * (uN d w N (uF d w, 2, 0, 1)).2.2.2 + uF d w * (uN d w N (uF d w, 2, 0, 1)).2.2.1 ∧ x7 = (uN d w N (uF d w, 2, 0, 1)).2.2.1 ∧ t = x6 * x6 + 2 ∧ u = x6 * x7 ∧ mn = 1))
abbrev i19 (k : Nat) : Prop := k = 19
abbrev s39 (c : Nat) : Prop := c = 1439
theorem FrN.toM {t : Nat} {h h' : mj_H} (f : FrN t h h') : FrM i19 noT s39 h h' := FrI.toM f.1 (by simp) (fun x hx => List.mem_singleton.1 hx)
abbrev l212 (fL pL qL : Int64) (o : Int32) (x8 x9 : Option Value) : mj_Ls := [some (.ref 1412), some (.long fL), none, some (.long pL), none, some (.long qL), none, some (.int o), x8, x9]
/-- FormHouseModel.findUnit()V; cuts at [5, 12, 19, 57, 89, 99, 130, 131, 138, 145, 152, 155, 166, 179, 187, 195, 203, 216, 226, 228, 243, 256, 263, 269, 274, 281, 288, 297, 306, 313] -/
def cl_212_7 : List mj_E := (303, false, .invokevirtual 282, 3, 218, 3, 17, 0, 0) ::
  (306, true, .aload_n 0, 1, 0, 0, 0, 0, 0) ::
  (307, false, .bipush 14, 2, 0, 0, 0, jI 14, 0) ::
  (309, false, .lconst 1, 1, 0, 0, 0, 0, jL 1) ::
  (310, false, .invokevirtual 268, 3, 213, 2, 17, 0, 0) ::
  (313, true, .aload_n 0, 1, 0, 0, 0, 0, 0) ::
  (314, false, .iconst 4, 1, 0, 0, 0, jI 4, 0) ::
  (315, false, .lconst 1, 1, 0, 0, 0, 0, jL 1) ::
  (316, false, .iconst 4, 1, 0, 0, 0, jI 4, 0) ::
  (317, false, .ldc2_w 130, 3, 0, 0, 0, 0, jL 2) ::
  (320, false, .bipush 14, 2, 0, 0, 0, jI 14, 0) ::
  (322, false, .invokevirtual 274, 3, 215, 5, 17, 0, 0) ::
  (325, false, .return_, 1, 0, 0, 0, 0, 0) ::
  []
def cl_212_6 : List mj_E := (260, false, .invokevirtual 278, 3, 217, 2, 17, 0, 0) ::
  (263, true, .iload 7, 2, 0, 0, 0, 0, 0) ::
  (265, false, .ifCond .ne 4, 3, 148, 0, 0, 0, 0) ::
  (268, false, .return_, 1, 0, 0, 0, 0, 0) ::
  (269, true, .aload_n 0, 1, 0, 0, 0, 0, 0) ::
  (270, false, .iconst 1, 1, 0, 0, 0, jI 1, 0) ::
  (271, false, .putfield 264, 3, 17, 19, 3, 0, 0) ::
  (274, true, .aload_n 0, 1, 0, 0, 0, 0, 0) ::
  (275, false, .bipush 6, 2, 0, 0, 0, jI 6, 0) ::
  (277, false, .iconst 4, 1, 0, 0, 0, jI 4, 0) ::
  (278, false, .invokevirtual 278, 3, 217, 2, 17, 0, 0) ::
  (281, true, .aload_n 0, 1, 0, 0, 0, 0, 0) ::
  (282, false, .bipush 7, 2, 0, 0, 0, jI 7, 0) ::
  (284, false, .iconst 5, 1, 0, 0, 0, jI 5, 0) ::
  (285, false, .invokevirtual 278, 3, 217, 2, 17, 0, 0) ::
  (288, true, .aload_n 0, 1, 0, 0, 0, 0, 0) ::
  (289, false, .iconst 5, 1, 0, 0, 0, jI 5, 0) ::
  (290, false, .bipush 6, 2, 0, 0, 0, jI 6, 0) ::
  (292, false, .bipush 7, 2, 0, 0, 0, jI 7, 0) ::
  (294, false, .invokevirtual 282, 3, 218, 3, 17, 0, 0) ::
  (297, true, .aload_n 0, 1, 0, 0, 0, 0, 0) ::
  (298, false, .iconst 4, 1, 0, 0, 0, jI 4, 0) ::
  (299, false, .bipush 6, 2, 0, 0, 0, jI 6, 0) ::
  (301, false, .bipush 6, 2, 0, 0, 0, jI 6, 0) ::
  cl_212_7
def cl_212_5 : List mj_E := (216, true, .iload 7, 2, 0, 0, 0, 0, 0) ::
  (218, false, .ifCond .ne 7, 3, 124, 0, 0, 0, 0) ::
  (221, false, .iconst 1, 1, 0, 0, 0, jI 1, 0) ::
  (222, false, .goto 4, 3, 125, 0, 0, 0, 0) ::
  (225, false, .iconst 0, 1, 0, 0, 0, jI 0, 0) ::
  (226, true, .istore 7, 2, 0, 0, 0, 0, 0) ::
  (228, true, .lload_n 3, 1, 0, 0, 0, 0, 0) ::
  (229, false, .lload_n 1, 1, 0, 0, 0, 0, 0) ::
  (230, false, .lcmp, 1, 0, 0, 0, 0, 0) ::
  (231, false, .ifCond .ne (-76), 3, 83, 0, 0, 0, 0) ::
  (234, false, .lload 5, 2, 0, 0, 0, 0, 0) ::
  (236, false, .ldc2_w 130, 3, 0, 0, 0, 0, jL 2) ::
  (239, false, .lcmp, 1, 0, 0, 0, 0, 0) ::
  (240, false, .ifCond .ne (-85), 3, 83, 0, 0, 0, 0) ::
  (243, true, .aload_n 0, 1, 0, 0, 0, 0, 0) ::
  (244, false, .iconst 4, 1, 0, 0, 0, jI 4, 0) ::
  (245, false, .ldc2_w 130, 3, 0, 0, 0, 0, jL 2) ::
  (248, false, .bipush 13, 2, 0, 0, 0, jI 13, 0) ::
  (250, false, .lload_n 1, 1, 0, 0, 0, 0, 0) ::
  (251, false, .bipush 12, 2, 0, 0, 0, jI 12, 0) ::
  (253, false, .invokevirtual 274, 3, 215, 5, 17, 0, 0) ::
  (256, true, .aload_n 0, 1, 0, 0, 0, 0, 0) ::
  (257, false, .iconst 5, 1, 0, 0, 0, jI 5, 0) ::
  (258, false, .bipush 12, 2, 0, 0, 0, jI 12, 0) ::
  cl_212_6
def cl_212_4 : List mj_E := (176, false, .invokevirtual 274, 3, 215, 5, 17, 0, 0) ::
  (179, true, .aload_n 0, 1, 0, 0, 0, 0, 0) ::
  (180, false, .bipush 13, 2, 0, 0, 0, jI 13, 0) ::
  (182, false, .bipush 12, 2, 0, 0, 0, jI 12, 0) ::
  (184, false, .invokevirtual 278, 3, 217, 2, 17, 0, 0) ::
  (187, true, .aload_n 0, 1, 0, 0, 0, 0, 0) ::
  (188, false, .bipush 12, 2, 0, 0, 0, jI 12, 0) ::
  (190, false, .bipush 14, 2, 0, 0, 0, jI 14, 0) ::
  (192, false, .invokevirtual 278, 3, 217, 2, 17, 0, 0) ::
  (195, true, .lload 8, 2, 0, 0, 0, 0, 0) ::
  (197, false, .lload 5, 2, 0, 0, 0, 0, 0) ::
  (199, false, .lmul, 1, 0, 0, 0, 0, 0) ::
  (200, false, .lload_n 3, 1, 0, 0, 0, 0, 0) ::
  (201, false, .lsub, 1, 0, 0, 0, 0, 0) ::
  (202, false, .lstore_n 3, 1, 0, 0, 0, 0, 0) ::
  (203, true, .aload_n 0, 1, 0, 0, 0, 0, 0) ::
  (204, false, .getfield 9, 3, 17, 1, 1, 0, 0) ::
  (207, false, .lload_n 3, 1, 0, 0, 0, 0, 0) ::
  (208, false, .lload_n 3, 1, 0, 0, 0, 0, 0) ::
  (209, false, .lmul, 1, 0, 0, 0, 0, 0) ::
  (210, false, .lsub, 1, 0, 0, 0, 0, 0) ::
  (211, false, .lload 5, 2, 0, 0, 0, 0, 0) ::
  (213, false, .ldiv, 1, 0, 0, 0, 0, 0) ::
  (214, false, .lstore 5, 2, 0, 0, 0, 0, 0) ::
  cl_212_5
def cl_212_3 : List mj_E := (136, false, .lstore 5, 2, 0, 0, 0, 0, 0) ::
  (138, true, .aload_n 0, 1, 0, 0, 0, 0, 0) ::
  (139, false, .bipush 12, 2, 0, 0, 0, jI 12, 0) ::
  (141, false, .lconst 0, 1, 0, 0, 0, 0, jL 0) ::
  (142, false, .invokevirtual 268, 3, 213, 2, 17, 0, 0) ::
  (145, true, .aload_n 0, 1, 0, 0, 0, 0, 0) ::
  (146, false, .bipush 13, 2, 0, 0, 0, jI 13, 0) ::
  (148, false, .lconst 1, 1, 0, 0, 0, 0, jL 1) ::
  (149, false, .invokevirtual 268, 3, 213, 2, 17, 0, 0) ::
  (152, true, .iconst 0, 1, 0, 0, 0, jI 0, 0) ::
  (153, false, .istore 7, 2, 0, 0, 0, 0, 0) ::
  (155, true, .lload_n 3, 1, 0, 0, 0, 0, 0) ::
  (156, false, .aload_n 0, 1, 0, 0, 0, 0, 0) ::
  (157, false, .getfield 17, 3, 17, 2, 1, 0, 0) ::
  (160, false, .ladd, 1, 0, 0, 0, 0, 0) ::
  (161, false, .lload 5, 2, 0, 0, 0, 0, 0) ::
  (163, false, .ldiv, 1, 0, 0, 0, 0, 0) ::
  (164, false, .lstore 8, 2, 0, 0, 0, 0, 0) ::
  (166, true, .aload_n 0, 1, 0, 0, 0, 0, 0) ::
  (167, false, .bipush 14, 2, 0, 0, 0, jI 14, 0) ::
  (169, false, .lload 8, 2, 0, 0, 0, 0, 0) ::
  (171, false, .bipush 12, 2, 0, 0, 0, jI 12, 0) ::
  (173, false, .lconst 1, 1, 0, 0, 0, 0, jL 1) ::
  (174, false, .bipush 13, 2, 0, 0, 0, jI 13, 0) ::
  cl_212_4
def cl_212_2 : List mj_E := (94, false, .lcmp, 1, 0, 0, 0, 0, 0) ::
  (95, false, .ifCond .ge 4, 3, 51, 0, 0, 0, 0) ::
  (98, false, .return_, 1, 0, 0, 0, 0, 0) ::
  (99, true, .aload_n 0, 1, 0, 0, 0, 0, 0) ::
  (100, false, .getfield 17, 3, 17, 2, 1, 0, 0) ::
  (103, false, .aload_n 0, 1, 0, 0, 0, 0, 0) ::
  (104, false, .getfield 9, 3, 17, 1, 1, 0, 0) ::
  (107, false, .lsub, 1, 0, 0, 0, 0, 0) ::
  (108, false, .ldc2_w 130, 3, 0, 0, 0, 0, jL 2) ::
  (111, false, .lrem, 1, 0, 0, 0, 0, 0) ::
  (112, false, .lconst 0, 1, 0, 0, 0, 0, jL 0) ::
  (113, false, .lcmp, 1, 0, 0, 0, 0, 0) ::
  (114, false, .ifCond .ne 10, 3, 64, 0, 0, 0, 0) ::
  (117, false, .aload_n 0, 1, 0, 0, 0, 0, 0) ::
  (118, false, .getfield 17, 3, 17, 2, 1, 0, 0) ::
  (121, false, .goto 9, 3, 68, 0, 0, 0, 0) ::
  (124, false, .aload_n 0, 1, 0, 0, 0, 0, 0) ::
  (125, false, .getfield 17, 3, 17, 2, 1, 0, 0) ::
  (128, false, .lconst 1, 1, 0, 0, 0, 0, jL 1) ::
  (129, false, .lsub, 1, 0, 0, 0, 0, 0) ::
  (130, true, .lstore_n 1, 1, 0, 0, 0, 0, 0) ::
  (131, true, .lload_n 1, 1, 0, 0, 0, 0, 0) ::
  (132, false, .lstore_n 3, 1, 0, 0, 0, 0, 0) ::
  (133, false, .ldc2_w 130, 3, 0, 0, 0, 0, jL 2) ::
  cl_212_3
def cl_212_1 : List mj_E := (44, false, .ifCond .ne 7, 3, 27, 0, 0, 0, 0) ::
  (47, false, .lconst 0, 1, 0, 0, 0, 0, jL 0) ::
  (48, false, .goto 6, 3, 28, 0, 0, 0, 0) ::
  (51, false, .ldc2_w 130, 3, 0, 0, 0, 0, jL 2) ::
  (54, false, .invokevirtual 268, 3, 213, 2, 17, 0, 0) ::
  (57, true, .aload_n 0, 1, 0, 0, 0, 0, 0) ::
  (58, false, .iconst 5, 1, 0, 0, 0, jI 5, 0) ::
  (59, false, .aload_n 0, 1, 0, 0, 0, 0, 0) ::
  (60, false, .getfield 9, 3, 17, 1, 1, 0, 0) ::
  (63, false, .ldc2_w 272, 3, 0, 0, 0, 0, jL (-3)) ::
  (66, false, .lcmp, 1, 0, 0, 0, 0, 0) ::
  (67, false, .ifCond .eq 14, 3, 41, 0, 0, 0, 0) ::
  (70, false, .aload_n 0, 1, 0, 0, 0, 0, 0) ::
  (71, false, .getfield 9, 3, 17, 1, 1, 0, 0) ::
  (74, false, .ldc2_w 7, 3, 0, 0, 0, 0, jL (-4)) ::
  (77, false, .lcmp, 1, 0, 0, 0, 0, 0) ::
  (78, false, .ifCond .ne 7, 3, 43, 0, 0, 0, 0) ::
  (81, false, .lconst 1, 1, 0, 0, 0, 0, jL 1) ::
  (82, false, .goto 4, 3, 44, 0, 0, 0, 0) ::
  (85, false, .lconst 0, 1, 0, 0, 0, 0, jL 0) ::
  (86, false, .invokevirtual 268, 3, 213, 2, 17, 0, 0) ::
  (89, true, .aload_n 0, 1, 0, 0, 0, 0, 0) ::
  (90, false, .getfield 9, 3, 17, 1, 1, 0, 0) ::
  (93, false, .lconst 0, 1, 0, 0, 0, 0, jL 0) ::
  cl_212_2
def cl_212_0 : List mj_E := (0, false, .aload_n 0, 1, 0, 0, 0, 0, 0) ::
  (1, false, .iconst 0, 1, 0, 0, 0, jI 0, 0) ::
  (2, false, .putfield 264, 3, 17, 19, 3, 0, 0) ::
  (5, true, .aload_n 0, 1, 0, 0, 0, 0, 0) ::
  (6, false, .bipush 6, 2, 0, 0, 0, jI 6, 0) ::
  (8, false, .lconst 0, 1, 0, 0, 0, 0, jL 0) ::
  (9, false, .invokevirtual 268, 3, 213, 2, 17, 0, 0) ::
  (12, true, .aload_n 0, 1, 0, 0, 0, 0, 0) ::
  (13, false, .bipush 7, 2, 0, 0, 0, jI 7, 0) ::
  (15, false, .lconst 0, 1, 0, 0, 0, 0, jL 0) ::
  (16, false, .invokevirtual 268, 3, 213, 2, 17, 0, 0) ::
  (19, true, .aload_n 0, 1, 0, 0, 0, 0, 0) ::
  (20, false, .iconst 4, 1, 0, 0, 0, jI 4, 0) ::
  (21, false, .aload_n 0, 1, 0, 0, 0, 0, 0) ::
  (22, false, .getfield 9, 3, 17, 1, 1, 0, 0) ::
  (25, false, .ldc2_w 272, 3, 0, 0, 0, 0, jL (-3)) ::
  (28, false, .lcmp, 1, 0, 0, 0, 0, 0) ::
  (29, false, .ifCond .ne 7, 3, 20, 0, 0, 0, 0) ::
  (32, false, .lconst 1, 1, 0, 0, 0, 0, jL 1) ::
  (33, false, .goto 21, 3, 28, 0, 0, 0, 0) ::
  (36, false, .aload_n 0, 1, 0, 0, 0, 0, 0) ::
  (37, false, .getfield 9, 3, 17, 1, 1, 0, 0) ::
  (40, false, .ldc2_w 7, 3, 0, 0, 0, 0, jL (-4)) ::
  (43, false, .lcmp, 1, 0, 0, 0, 0, 0) ::
  cl_212_1
def cd_212 : List mj_E := cl_212_0
def cx_212 : mj_X := (0, [], [])
theorem tb_212 : mj_tab (mj_mt 212) cx_212 cd_212 mj_mh [(0, 0, 0), (0, 0, 0), (7118, 0, 0), (0, 0, 0), (0, 0, 0), (0, 0, 0), (7057, 0, 0), (0, 0, 0), (0, 0, 0), (0, 0, 0), (7057, 0, 0), (0, 0, 0), (0, 0, 0), (0, 0, 0), (7100, 0, 0), (7066, 0, 0), (0, 0, 0), (0, 0, 0), (0, 0, 0), (0, 0, 0), (0, 0, 0), (7100, 0, 0), (6205, 0, 0), (0, 0, 0), (0, 0, 0), (0, 0, 0), (0, 0, 0), (6218, 0, 0), (7057, 0, 0), (0, 0, 0), (0, 0, 0), (0, 0, 0), (7100, 0, 0), (7066, 0, 0), (0, 0, 0), (0, 0, 0), (0, 0, 0), (7100, 0, 0), (6205, 0, 0), (0, 0, 0), (0, 0, 0), (0, 0, 0), (0, 0, 0), (0, 0, 0), (7057, 0, 0), (0, 0, 0), (7100, 0, 0), (0, 0, 0), (0, 0, 0), (0, 0, 0), (0, 0, 0), (0, 0, 0), (7101, 0, 0), (0, 0, 0), (7100, 0, 0), (0, 0, 0), (6218, 0, 0), (0, 0, 0), (0, 0, 0), (0, 0, 0), (0, 0, 0), (0, 0, 0), (7101, 0, 0), (0, 0, 0), (0, 0, 0), (7101, 0, 0), (0, 0, 0), (0, 0, 0), (0, 0, 0), (0, 0, 0), (0, 0, 0), (6218, 0, 0), (0, 0, 0), (0, 0, 0), (0, 0, 0), (0, 0, 0), (7057, 0, 0), (0, 0, 0), (0, 0, 0), (0, 0, 0), (7057, 0, 0), (0, 0, 0), (0, 0, 0), (0, 0, 0), (0, 0, 0), (7101, 0, 0), (0, 0, 0), (0, 0, 0), (0, 0, 0), (0, 0, 0), (0, 0, 0), (0, 0, 0), (0, 0, 0), (0, 0, 0), (0, 0, 0), (0, 0, 0), (7067, 0, 0), (0, 0, 0), (0, 0, 0), (0, 0, 0), (7075, 0, 0), (0, 0, 0), (0, 0, 0), (0, 0, 0), (7075, 0, 0), (0, 0, 0), (0, 0, 0), (0, 0, 0), (0, 0, 0), (0, 0, 0), (0, 0, 0), (0, 0, 0), (7100, 0, 0), (0, 0, 0), (0, 0, 0), (0, 0, 0), (0, 0, 0), (0, 0, 0), (0, 0, 0), (0, 0, 0), (0, 0, 0), (0, 0, 0), (0, 0, 0), (0, 0, 0), (0, 0, 0), (0, 0, 0), (0, 0, 0), (0, 0, 0), (0, 0, 0), (0, 0, 0), (0, 0, 0), (6218, 0, 0), (0, 0, 0), (0, 0, 0), (0, 0, 0), (0, 0, 0), (6218, 0, 0), (0, 0, 0), (0, 0, 0), (0, 0, 0), (7067, 0, 0), (0, 0, 0), (0, 0, 0), (0, 0, 0), (7075, 0, 0), (0, 0, 0), (0, 0, 0), (0, 0, 0), (0, 0, 0), (0, 0, 0), (7118, 0, 0), (0, 0, 0), (0, 0, 0), (0, 0, 0), (7075, 0, 0), (0, 0, 0), (0, 0, 0), (0, 0, 0), (7075, 0, 0), (0, 0, 0), (0, 0, 0), (0, 0, 0), (0, 0, 0), (7079, 0, 0), (0, 0, 0), (0, 0, 0), (0, 0, 0), (0, 0, 0), (7079, 0, 0), (0, 0, 0), (0, 0, 0), (0, 0, 0), (7057, 0, 0), (0, 0, 0), (0, 0, 0), (0, 0, 0), (0, 0, 0), (6218, 0, 0), (0, 0, 0), (7067, 0, 0), (0, 0, 0)] = true := mj_tab_f (by decide +kernel)
theorem ct_212 (G : mj_G) {h : mj_H} (L : isLam h) {d w : Int} (hw : isMw h d w) (hd : -1048576 ≤ d ∧ d ≤ 1048576) (hd0 : d ≠ 0) (hwb : -1 ≤ w ∧ w ≤ 1024) {N : Nat} {t u x6 x7 mn : Int} (hu : muP d w N t u x6 x7 mn) : mj_Ct G (mj_mt 212) 0 0 [.ref 1412] h (fun o h' => o = .returned none ∧ isN h' 4 t ∧ isN h' 5 u ∧ isN h' 6 x6 ∧ isN h' 7 x7 ∧ hI h' 1412 19 = jI mn ∧ FrM i19 noT s39 h h') := by
  obtain ⟨un, up⟩ := hu
  have hMw : ∀ {h' : mj_H}, FrM i19 noT s39 h h' → isMw h' d w := fun F => hw.M F (fun z => z) (fun z => z)
  have h19 : ∀ {t : Nat} {h1 h2 : mj_H} {v : Int32}, FrN t h1 h2 → hI h1 1412 19 = v → hI h2 1412 19 = v := fun F e => (congrFun (F.1.2 1412 (by simp)) 19).trans e
  refine mj_Ct_of mj_ok tb_212 rfl rfl (Nat.le_of_ble_eq_true rfl) (fun Run hR => ?_)
  -- above 0
  have pos : 0 < d → ∀ (h1 : mj_H), isN h1 6 0 → isN h1 7 0 → hI h1 1412 19 = jI 0 → FrM i19 noT s39 h h1 → ∀ (x1 x2 x3 x4 x5 x6' x7' x8 x9 : Option Value), Run 99 [some (.ref 1412), x1, x2, x3, x4, x5, x6', x7', x8, x9] [] h1 (0, 0) := by
    intro hp
    obtain ⟨ut, ue, uo⟩ := up hp
    obtain ⟨f, hf⟩ : ∃ f, f = uF d w := ⟨_, rfl⟩
    rw [← hf] at ut ue uo
    have hfb : -2 ≤ f ∧ f ≤ 1024 := by
      rw [hf]
      unfold uF
      split <;> omega
    obtain ⟨s9, hs9⟩ : ∃ s : uSt, s = uN d w N (f, 2, 0, 1) := ⟨_, rfl⟩
    rw [← hs9] at ue uo
    -- with the last parts
    have last : ∀ (h1 : mj_H) (pL qL : Int64) (ov : Int) (x8 x9 : Option Value), isN h1 6 0 → isN h1 7 0 → isN h1 12 s9.2.2.1 → isN h1 13 s9.2.2.2 → hI h1 1412 19 = jI 0 → FrM i19 noT s39 h h1 → ((ov = 0 ∧ N % 2 = 0) ∨ (ov = 1 ∧ N % 2 = 1)) → Run 243 (l212 (jL f) pL qL (jI ov) x8 x9) [] h1 (0, 0) := by
      intro h1 pL qL ov x8 x9 n6 n7 n12 n13 e19 F1 hov
      have L1 := F1.lay L
      obtain ⟨T0, hT0⟩ : ∃ T0, T0 = 2 * s9.2.2.2 + f * s9.2.2.1 := ⟨_, rfl⟩
      rw [← hT0] at ue uo
      have odd : N % 2 = 1 → ∀ (h3 : mj_H), isN h3 4 T0 → isN h3 5 s9.2.2.1 → FrM i19 noT s39 h h3 → Run 269 (l212 (jL f) pL qL (jI ov) x8 x9) [] h3 (0, 0) := by
        intro hN1 h3 n4 n5 F3
        obtain ⟨o1, o2, o3, o4, o5⟩ := uo hN1
        have r313 : ∀ (h4 : mj_H), isN h4 4 (x6 * x6) → isN h4 5 u → isN h4 6 x6 → isN h4 7 x7 → isN h4 14 1 → hI h4 1412 19 = jI 1 → FrM i19 noT s39 h h4 → Run 313 (l212 (jL f) pL qL (jI ov) x8 x9) [] h4 (0, 0) := by
          intro h4 m4 m5 m6 m7 m14 g19 F4
          have L4 := F4.lay L
          refine hR 60 173 _ _ _ _ _ _ rfl ?_
          refine ⟨L4.K 1412 rfl, jcallP (ct_215 G L4.Md (t := 4) (i := 4) (j := 14) (x := 1) (y := 2) (by omega) (by omega) (by omega) (by omega) (by omega) m4 m14) ?_⟩
          rintro o h5 ⟨rfl, k4, F5⟩
          refine ⟨rfl, ?_, m5.o F5 (by omega), m6.o F5 (by omega), m7.o F5 (by omega), ?_, F4.trans F5.toM⟩
          · rw [o3, show x6 * x6 + 2 = 1 * (x6 * x6) + 2 * 1 by omega]
            exact k4
          · rw [o5]
            exact h19 F5 g19
        have r306 : ∀ (h4 : mj_H), isN h4 4 (x6 * x6) → isN h4 5 u → isN h4 6 x6 → isN h4 7 x7 → hI h4 1412 19 = jI 1 → FrM i19 noT s39 h h4 → Run 306 (l212 (jL f) pL qL (jI ov) x8 x9) [] h4 (0, 0) := by
          intro h4 m4 m5 m6 m7 g19 F4
          have L4 := F4.lay L
          refine hR 60 169 _ _ _ _ _ _ rfl ?_
          refine ⟨L4.K 1412 rfl, jcallP (ct_213 G L4.Md (i := 14) (by omega) (v := 1) (by decide) (by decide)) ?_⟩
          rintro o h5 ⟨rfl, k14, F5⟩
          exact r313 h5 (m4.o F5 (by omega)) (m5.o F5 (by omega)) (m6.o F5 (by omega)) (m7.o F5 (by omega)) k14 (h19 F5 g19) (F4.trans F5.toM)
        have r297 : ∀ (h4 : mj_H), isN h4 5 u → isN h4 6 x6 → isN h4 7 x7 → hI h4 1412 19 = jI 1 → FrM i19 noT s39 h h4 → Run 297 (l212 (jL f) pL qL (jI ov) x8 x9) [] h4 (0, 0) := by
          intro h4 m5 m6 m7 g19 F4
          have L4 := F4.lay L
          refine hR 60 164 _ _ _ _ _ _ rfl ?_
          refine ⟨L4.K 1412 rfl, jcallP (ct_218 G L4.Md (t := 4) (i := 6) (j := 6) (by omega) (by omega) (by omega) (by omega) (by omega) m6 m6) ?_⟩
          rintro o h5 ⟨rfl, k4, F5⟩
          exact r306 h5 k4 (m5.o F5 (by omega)) (m6.o F5 (by omega)) (m7.o F5 (by omega)) (h19 F5 g19) (F4.trans F5.toM)
        have r288 : ∀ (h4 : mj_H), isN h4 6 x6 → isN h4 7 x7 → hI h4 1412 19 = jI 1 → FrM i19 noT s39 h h4 → Run 288 (l212 (jL f) pL qL (jI ov) x8 x9) [] h4 (0, 0) := by
          intro h4 m6 m7 g19 F4
          have L4 := F4.lay L
          refine hR 60 159 _ _ _ _ _ _ rfl ?_
          refine ⟨L4.K 1412 rfl, jcallP (ct_218 G L4.Md (t := 5) (i := 6) (j := 7) (by omega) (by omega) (by omega) (by omega) (by omega) m6 m7) ?_⟩
          rintro o h5 ⟨rfl, k5, F5⟩
          rw [← o4] at k5
          exact r297 h5 k5 (m6.o F5 (by omega)) (m7.o F5 (by omega)) (h19 F5 g19) (F4.trans F5.toM)
        have r281 : ∀ (h4 : mj_H), isN h4 5 x7 → isN h4 6 x6 → hI h4 1412 19 = jI 1 → FrM i19 noT s39 h h4 → Run 281 (l212 (jL f) pL qL (jI ov) x8 x9) [] h4 (0, 0) := by
          intro h4 m5 m6 g19 F4
          have L4 := F4.lay L
          refine hR 60 155 _ _ _ _ _ _ rfl ?_
          refine ⟨L4.K 1412 rfl, jcallP (ct_217' G L4.Md (t := 7) (f := 5) (by omega) (by omega) (by omega) m5) ?_⟩
          rintro o h5 ⟨rfl, k7, F5⟩
          exact r288 h5 (m6.o F5 (by omega)) k7 (h19 F5 g19) (F4.trans F5.toM)
        have r274 : ∀ (h4 : mj_H), isN h4 4 x6 → isN h4 5 x7 → hI h4 1412 19 = jI 1 → FrM i19 noT s39 h h4 → Run 274 (l212 (jL f) pL qL (jI ov) x8 x9) [] h4 (0, 0) := by
          intro h4 m4 m5 g19 F4
          have L4 := F4.lay L
          refine hR 60 151 _ _ _ _ _ _ rfl ?_
          refine ⟨L4.K 1412 rfl, jcallP (ct_217' G L4.Md (t := 6) (f := 4) (by omega) (by omega) (by omega) m4) ?_⟩
          rintro o h5 ⟨rfl, k6, F5⟩
          exact r281 h5 (m5.o F5 (by omega)) k6 (h19 F5 g19) (F4.trans F5.toM)
        refine hR 60 148 _ _ _ _ _ _ rfl ?_
        refine ⟨(F3.lay L).K 1412 rfl, Or.inr rfl, ?_⟩
        rw [← o1] at n4
        rw [← o2] at n5
        exact r274 _ (fun k hk => n4 k hk) (fun k hk => n5 k hk) (sI_at _ _ _ _) (F3.fI rfl _)
      have r263 : ∀ (h3 : mj_H), isN h3 4 T0 → isN h3 5 s9.2.2.1 → isN h3 6 0 → isN h3 7 0 → hI h3 1412 19 = jI 0 → FrM i19 noT s39 h h3 → Run 263 (l212 (jL f) pL qL (jI ov) x8 x9) [] h3 (0, 0) := by
        intro h3 m4 m5 m6 m7 g19 F3
        refine hR 60 145 _ _ _ _ _ _ rfl ?_
        rcases hov with ⟨rfl, hN⟩ | ⟨rfl, hN⟩
        · obtain ⟨o1, o2, o3, o4, o5⟩ := ue hN
          refine ⟨fun c => ⟨rfl, ?_, ?_, ?_, ?_, ?_, F3⟩, fun c => absurd rfl c⟩
          · rw [o1]
            exact m4
          · rw [o2]
            exact m5
          · rw [o3]
            exact m6
          · rw [o4]
            exact m7
          · rw [o5]
            exact g19
        · exact ⟨fun c => absurd c (by decide), fun c => odd hN h3 m4 m5 F3⟩
      have r256 : ∀ (h3 : mj_H), isN h3 4 T0 → isN h3 12 s9.2.2.1 → isN h3 6 0 → isN h3 7 0 → hI h3 1412 19 = jI 0 → FrM i19 noT s39 h h3 → Run 256 (l212 (jL f) pL qL (jI ov) x8 x9) [] h3 (0, 0) := by
        intro h3 m4 m12 m6 m7 g19 F3
        have L3 := F3.lay L
        refine hR 60 141 _ _ _ _ _ _ rfl ?_
        refine ⟨L3.K 1412 rfl, jcallP (ct_217' G L3.Md (t := 5) (f := 12) (by omega) (by omega) (by omega) m12) ?_⟩
        rintro o h4 ⟨rfl, k5, F4⟩
        exact r263 h4 (m4.o F4 (by omega)) k5 (m6.o F4 (by omega)) (m7.o F4 (by omega)) (h19 F4 g19) (F3.trans F4.toM)
      refine hR 60 134 _ _ _ _ _ _ rfl ?_
      refine ⟨L1.K 1412 rfl, jcallP (ct_215 G L1.Md (t := 4) (i := 13) (j := 12) (x := 2) (y := f) (by omega) (by omega) (by omega) (by omega) (by omega) n13 n12) ?_⟩
      rintro o h3 ⟨rfl, k4, F3⟩
      rw [← hT0] at k4
      exact r256 h3 k4 (n12.o F3 (by omega)) (n6.o F3 (by omega)) (n7.o F3 (by omega)) (h19 F3 e19) (F1.trans F3.toM)
    have r155 : ∀ (k : Nat) (s : uSt) (ov : Int) (h1 : mj_H) (pL qL : Int64) (oI : Int32) (x8 x9 : Option Value), k ≤ N → uT d w f k s → uN d w k s = s9 → isN h1 6 0 → isN h1 7 0 → isN h1 12 s.2.2.1 → isN h1 13 s.2.2.2 → hI h1 1412 19 = jI 0 → FrM i19 noT s39 h h1 → ((ov = 0 ∧ (N - k) % 2 = 0) ∨ (ov = 1 ∧ (N - k) % 2 = 1)) → pL = jL s.1 → qL = jL s.2.1 → oI = jI ov → Run 155 (l212 (jL f) pL qL oI x8 x9) [] h1 (0, 0) := by
      intro k
      induction k with
      | zero => intro s ov h1 pL qL oI x8 x9 hk hT; exact hT.elim
      | succ k ih =>
        rintro s ov h1 pL qL oI x8 x9 hk hT hN' n6 n7 n12 n13 e19 F1 hov rfl rfl rfl
        have L1 := F1.lay L
        have w2 := (hMw F1).2
        obtain ⟨⟨⟨p0, p1⟩, q0, q1⟩, hcase⟩ := hT
        have hwp : 0 ≤ w ∨ w = -1 := by omega
        obtain ⟨W, hW⟩ : ∃ W, W = (s.1 + w).tdiv s.2.1 := ⟨_, rfl⟩
        have hWb := Int.natAbs_tdiv_le_natAbs (s.1 + w) s.2.1
        rw [← hW] at hWb
        obtain ⟨P, hP⟩ : ∃ P, P = W * s.2.1 - s.1 := ⟨_, rfl⟩
        have hPb : -10000 ≤ P ∧ P ≤ 12000 := by
          have h1 : (W * s.2.1).natAbs ≤ (s.1 + w).natAbs := by
            have h2 := Int.mul_tdiv_add_tmod (s.1 + w) s.2.1
            rw [hW, Int.natAbs_mul, Int.natAbs_tdiv]
            exact Nat.div_mul_le_self _ _
          rw [hP]
          generalize W * s.2.1 = X at *
          omega
        have hPP : 0 ≤ P * P ∧ P * P ≤ 144000000 := by
          refine ⟨sqn P, ?_⟩
          have := ab_mul (show P.natAbs ≤ 12000 by omega) (show P.natAbs ≤ 12000 by omega)
          have := sqn P
          generalize P * P = X at *
          omega
        have hst : uStep d w s = (P, (d - P * P).tdiv s.2.1, W * s.2.2.1 + s.2.2.2, s.2.2.1) := by
          unfold uStep
          rw [← hW, ← hP]
        rw [hst] at hcase
        obtain ⟨Q, hQ⟩ : ∃ Q, Q = (d - P * P).tdiv s.2.1 := ⟨_, rfl⟩
        rw [← hQ] at hcase hst
        have hQb := Int.natAbs_tdiv_le_natAbs (d - P * P) s.2.1
        rw [← hQ] at hQb
        have hN2 : uN d w k (P, Q, W * s.2.2.1 + s.2.2.2, s.2.2.1) = s9 := by
          rw [← hst]
          exact hN'
        have flip : ((1 - ov = 0 ∧ (N - k) % 2 = 0) ∨ (1 - ov = 1 ∧ (N - k) % 2 = 1)) := flip_l hk hov
        have r228 : ∀ (h3 : mj_H) (x8 x9 : Option Value), isN h3 6 0 → isN h3 7 0 → isN h3 12 (W * s.2.2.1 + s.2.2.2) → isN h3 13 s.2.2.1 → hI h3 1412 19 = jI 0 → FrM i19 noT s39 h h3 → Run 228 (l212 (jL f) (jL P) (jL Q) (jI (1 - ov)) x8 x9) [] h3 (0, 0) := by
          intro h3 x8 x9 m6 m7 m12 m13 g19 F3
          have next : ¬ (P = f ∧ Q = 2) → Run 155 (l212 (jL f) (jL P) (jL Q) (jI (1 - ov)) x8 x9) [] h3 (0, 0) := by
            intro hne
            rcases hcase with ⟨_, q⟩ | ⟨_, hT2⟩
            · exact absurd q hne
            · exact ih (P, Q, W * s.2.2.1 + s.2.2.2, s.2.2.1) (1 - ov) h3 _ _ _ _ _ (by omega) hT2 hN2 m6 m7 m12 m13 g19 F3 flip rfl rfl rfl
          refine hR 60 126 _ _ _ _ _ _ rfl ?_
          refine ⟨fun c => ⟨fun c2 => ?_, fun c2 => ?_⟩, fun c => ?_⟩
          · rw [jL_eq (by omega) (by omega) (by omega) (by omega)] at c c2
            rcases hcase with ⟨hk0, q⟩ | ⟨hne, _⟩
            · subst hk0
              have e9 : (P, Q, W * s.2.2.1 + s.2.2.2, s.2.2.1) = s9 := hN2
              refine last h3 _ _ (1 - ov) _ _ m6 m7 (by rw [← e9]; exact m12) (by rw [← e9]; exact m13) g19 F3 ?_
              rw [show N - 0 = N by omega] at flip
              exact flip
            · exact absurd ⟨c, c2⟩ hne
          · rw [jL_eq (by omega) (by omega) (by omega) (by omega)] at c2
            exact next (fun q => c2 q.2)
          · rw [jL_eq (by omega) (by omega) (by omega) (by omega)] at c
            exact next (fun q => c q.1)
        have r226 : ∀ (h3 : mj_H) (oI o7 : Int32) (x8 x9 : Option Value), oI = jI (1 - ov) → isN h3 6 0 → isN h3 7 0 → isN h3 12 (W * s.2.2.1 + s.2.2.2) → isN h3 13 s.2.2.1 → hI h3 1412 19 = jI 0 → FrM i19 noT s39 h h3 → Run 226 (l212 (jL f) (jL P) (jL Q) o7 x8 x9) [.int oI] h3 (0, 0) := by
          rintro h3 oI o7 x8 x9 rfl m6 m7 m12 m13 g19 F3
          refine hR 60 125 _ _ _ _ _ _ rfl ?_
          exact r228 h3 _ _ m6 m7 m12 m13 g19 F3
        have r216 : ∀ (h3 : mj_H) (qL : Int64) (x8 x9 : Option Value), qL = jL Q → isN h3 6 0 → isN h3 7 0 → isN h3 12 (W * s.2.2.1 + s.2.2.2) → isN h3 13 s.2.2.1 → hI h3 1412 19 = jI 0 → FrM i19 noT s39 h h3 → Run 216 (l212 (jL f) (jL P) qL (jI ov) x8 x9) [] h3 (0, 0) := by
          rintro h3 qL x8 x9 rfl m6 m7 m12 m13 g19 F3
          refine hR 60 120 _ _ _ _ _ _ rfl ?_
          rcases hov with ⟨rfl, hq⟩ | ⟨rfl, hq⟩
          · exact ⟨fun c => r226 h3 _ _ _ _ rfl m6 m7 m12 m13 g19 F3, fun c => absurd rfl c⟩
          · exact ⟨fun c => absurd c (by decide), fun c => r226 h3 _ _ _ _ rfl m6 m7 m12 m13 g19 F3⟩
        have r203 : ∀ (h3 : mj_H) (pL : Int64) (x8 x9 : Option Value), pL = jL P → isN h3 6 0 → isN h3 7 0 → isN h3 12 (W * s.2.2.1 + s.2.2.2) → isN h3 13 s.2.2.1 → hI h3 1412 19 = jI 0 → FrM i19 noT s39 h h3 → Run 203 (l212 (jL f) pL (jL s.2.1) (jI ov) x8 x9) [] h3 (0, 0) := by
          rintro h3 pL x8 x9 rfl m6 m7 m12 m13 g19 F3
          refine hR 60 111 _ _ _ _ _ _ rfl ?_
          refine ⟨(F3.lay L).K 1412 rfl, ?_, ?_⟩
          · show ¬ jL s.2.1 = jL 0
            rw [jL_eq (by omega) (by omega) (by omega) (by omega)]
            omega
          · refine r216 h3 _ _ _ ?_ m6 m7 m12 m13 g19 F3
            rw [(hMw F3).1, jL_mul, jL_sub, jL_div (by omega) (by omega) (by omega) (by omega), hQ]
        have r195 : ∀ (h3 : mj_H), isN h3 6 0 → isN h3 7 0 → isN h3 12 (W * s.2.2.1 + s.2.2.2) → isN h3 13 s.2.2.1 → hI h3 1412 19 = jI 0 → FrM i19 noT s39 h h3 → Run 195 (l212 (jL f) (jL s.1) (jL s.2.1) (jI ov) (some (.long (jL W))) none) [] h3 (0, 0) := by
          intro h3 m6 m7 m12 m13 g19 F3
          refine hR 60 105 _ _ _ _ _ _ rfl ?_
          exact r203 h3 _ _ _ (by rw [jL_mul, jL_sub, hP]) m6 m7 m12 m13 g19 F3
        have r187 : ∀ (h3 : mj_H), isN h3 6 0 → isN h3 7 0 → isN h3 14 (W * s.2.2.1 + s.2.2.2) → isN h3 13 s.2.2.1 → hI h3 1412 19 = jI 0 → FrM i19 noT s39 h h3 → Run 187 (l212 (jL f) (jL s.1) (jL s.2.1) (jI ov) (some (.long (jL W))) none) [] h3 (0, 0) := by
          intro h3 m6 m7 m14 m13 g19 F3
          have L3 := F3.lay L
          refine hR 60 101 _ _ _ _ _ _ rfl ?_
          refine ⟨L3.K 1412 rfl, jcallP (ct_217' G L3.Md (t := 12) (f := 14) (by omega) (by omega) (by omega) m14) ?_⟩
          rintro o h4 ⟨rfl, k12, F4⟩
          exact r195 h4 (m6.o F4 (by omega)) (m7.o F4 (by omega)) k12 (m13.o F4 (by omega)) (h19 F4 g19) (F3.trans F4.toM)
        have r179 : ∀ (h3 : mj_H), isN h3 6 0 → isN h3 7 0 → isN h3 14 (W * s.2.2.1 + s.2.2.2) → isN h3 12 s.2.2.1 → hI h3 1412 19 = jI 0 → FrM i19 noT s39 h h3 → Run 179 (l212 (jL f) (jL s.1) (jL s.2.1) (jI ov) (some (.long (jL W))) none) [] h3 (0, 0) := by
          intro h3 m6 m7 m14 m12 g19 F3
          have L3 := F3.lay L
          refine hR 60 97 _ _ _ _ _ _ rfl ?_
          refine ⟨L3.K 1412 rfl, jcallP (ct_217' G L3.Md (t := 13) (f := 12) (by omega) (by omega) (by omega) m12) ?_⟩
          rintro o h4 ⟨rfl, k13, F4⟩
          exact r187 h4 (m6.o F4 (by omega)) (m7.o F4 (by omega)) (m14.o F4 (by omega)) k13 (h19 F4 g19) (F3.trans F4.toM)
        have r166 : ∀ WL : Int64, WL = jL W → Run 166 (l212 (jL f) (jL s.1) (jL s.2.1) (jI ov) (some (.long WL)) none) [] h1 (0, 0) := by
          rintro WL rfl
          refine hR 60 90 _ _ _ _ _ _ rfl ?_
          refine ⟨L1.K 1412 rfl, jcallP (ct_215 G L1.Md (t := 14) (i := 12) (j := 13) (x := W) (y := 1) (by omega) (by omega) (by omega) (by omega) (by omega) n12 n13) ?_⟩
          rintro o h3 ⟨rfl, k14, F3⟩
          rw [Int.one_mul] at k14
          exact r179 h3 (n6.o F3 (by omega)) (n7.o F3 (by omega)) k14 (n12.o F3 (by omega)) (h19 F3 e19) (F1.trans F3.toM)
        refine hR 60 83 _ _ _ _ _ _ rfl ?_
        refine ⟨L1.K 1412 rfl, ?_, ?_⟩
        · show ¬ jL s.2.1 = jL 0
          rw [jL_eq (by omega) (by omega) (by omega) (by omega)]
          omega
        · refine r166 _ ?_
          rw [w2, jL_add, jL_div (by omega) (by omega) (by omega) (by omega), hW]
    intro h1 n6 n7 e19 F1
    have L1 := F1.lay L
    have w1 := (hMw F1).1
    have w2 := (hMw F1).2
    have r152 : ∀ (h3 : mj_H) (x7' x8 x9 : Option Value), isN h3 6 0 → isN h3 7 0 → isN h3 12 0 → isN h3 13 1 → hI h3 1412 19 = jI 0 → FrM i19 noT s39 h h3 → Run 152 [some (.ref 1412), some (.long (jL f)), none, some (.long (jL f)), none, some (.long (jL 2)), none, x7', x8, x9] [] h3 (0, 0) := by
      intro h3 x7' x8 x9 m6 m7 m12 m13 g19 F3
      refine hR 60 81 _ _ _ _ _ _ rfl ?_
      exact r155 N (f, 2, 0, 1) 0 h3 _ _ _ _ _ (Nat.le_refl _) ut hs9.symm m6 m7 m12 m13 g19 F3 (Or.inl ⟨rfl, by omega⟩) rfl rfl rfl
    have r145 : ∀ (h3 : mj_H) (x7' x8 x9 : Option Value), isN h3 6 0 → isN h3 7 0 → isN h3 12 0 → hI h3 1412 19 = jI 0 → FrM i19 noT s39 h h3 → Run 145 [some (.ref 1412), some (.long (jL f)), none, some (.long (jL f)), none, some (.long (jL 2)), none, x7', x8, x9] [] h3 (0, 0) := by
      intro h3 x7' x8 x9 m6 m7 m12 g19 F3
      have L3 := F3.lay L
      refine hR 60 77 _ _ _ _ _ _ rfl ?_
      refine ⟨L3.K 1412 rfl, jcallP (ct_213 G L3.Md (i := 13) (by omega) (v := 1) (by decide) (by decide)) ?_⟩
      rintro o h4 ⟨rfl, k13, F4⟩
      exact r152 h4 _ _ _ (m6.o F4 (by omega)) (m7.o F4 (by omega)) (m12.o F4 (by omega)) k13 (h19 F4 g19) (F3.trans F4.toM)
    have r138 : ∀ (x7' x8 x9 : Option Value), Run 138 [some (.ref 1412), some (.long (jL f)), none, some (.long (jL f)), none, some (.long (jL 2)), none, x7', x8, x9] [] h1 (0, 0) := by
      intro x7' x8 x9
      refine hR 60 73 _ _ _ _ _ _ rfl ?_
      refine ⟨L1.K 1412 rfl, jcallP (ct_213 G L1.Md (i := 12) (by omega) (v := 0) (by decide) (by decide)) ?_⟩
      rintro o h4 ⟨rfl, k12, F4⟩
      exact r145 h4 _ _ _ (n6.o F4 (by omega)) (n7.o F4 (by omega)) k12 (h19 F4 e19) (F1.trans F4.toM)
    have r131 : ∀ (x3 x4 x5 x6' x7' x8 x9 : Option Value), Run 131 [some (.ref 1412), some (.long (jL f)), none, x3, x4, x5, x6', x7', x8, x9] [] h1 (0, 0) := by
      intro x3 x4 x5 x6' x7' x8 x9
      refine hR 60 69 _ _ _ _ _ _ rfl ?_
      exact r138 _ _ _
    have r130 : ∀ (fL : Int64) (x1 x2 x3 x4 x5 x6' x7' x8 x9 : Option Value), fL = jL f → Run 130 [some (.ref 1412), x1, x2, x3, x4, x5, x6', x7', x8, x9] [.long fL] h1 (0, 0) := by
      rintro fL x1 x2 x3 x4 x5 x6' x7' x8 x9 rfl
      refine hR 60 68 _ _ _ _ _ _ rfl ?_
      exact r131 _ _ _ _ _ _ _
    intro x1 x2 x3 x4 x5 x6' x7' x8 x9
    have htm := tmod_abs (w - d) 2
    have em : (hJ h1 1412 2 - hJ h1 1412 1) % jL 2 = jL ((w - d).tmod 2) := by rw [w1, w2, jL_sub, jL_mod (by omega) (by omega) (by omega) (by omega)]
    refine hR 60 51 _ _ _ _ _ _ rfl ?_
    refine ⟨L1.K 1412 rfl, L1.K 1412 rfl, by decide, fun c => ⟨L1.K 1412 rfl, ?_⟩, fun c => ⟨L1.K 1412 rfl, ?_⟩⟩
    · have c' : (hJ h1 1412 2 - hJ h1 1412 1) % jL 2 = jL 0 := c
      rw [em, jL_eq (by omega) (by omega) (by omega) (by omega)] at c'
      refine r130 _ _ _ _ _ _ _ _ _ _ ?_
      rw [w2, hf]
      unfold uF
      rw [if_pos c']
    · have c' : ¬ (hJ h1 1412 2 - hJ h1 1412 1) % jL 2 = jL 0 := c
      rw [em, jL_eq (by omega) (by omega) (by omega) (by omega)] at c'
      refine r130 _ _ _ _ _ _ _ _ _ _ ?_
      rw [w2, hf, jL_sub]
      unfold uF
      rw [if_neg c']
  obtain ⟨t0, ht0⟩ : ∃ t0 : Int, t0 = if d = -3 then 1 else if d = -4 then 0 else 2 := ⟨_, rfl⟩
  obtain ⟨u0, hu0⟩ : ∃ u0 : Int, u0 = if d = -3 ∨ d = -4 then 1 else 0 := ⟨_, rfl⟩
  have r89 : ∀ (h1 : mj_H) (x1 x2 x3 x4 x5 x6' x7' x8 x9 : Option Value), isN h1 4 t0 → isN h1 5 u0 → isN h1 6 0 → isN h1 7 0 → hI h1 1412 19 = jI 0 → FrM i19 noT s39 h h1 → Run 89 [some (.ref 1412), x1, x2, x3, x4, x5, x6', x7', x8, x9] [] h1 (0, 0) := by
    intro h1 x1 x2 x3 x4 x5 x6' x7' x8 x9 n4 n5 n6 n7 e19 F1
    have w1 := (hMw F1).1
    refine hR 60 45 _ _ _ _ _ _ rfl ?_
    refine ⟨(F1.lay L).K 1412 rfl, fun c => ?_, fun c => ?_⟩
    · simp only [mj_lcm, w1] at c
      simp (disch := omega) only [mj_lcm, jI_lt, jI_le, jI_eq, jL_lt, jL_le, jL_eq, jI_lt0, jI_0le, jI_0lt, jI_le0, jI_eq0, jL_eq0, jI_L, jI_add, jI_sub, jI_mul, jI_neg, jL_add, jL_sub, jL_mul, jL_neg, jL_I, jI_div, jI_mod, jL_div, jL_mod] at c
      exact pos (by omega) h1 n6 n7 e19 F1 _ _ _ _ _ _ _ _ _
    · simp only [mj_lcm, w1] at c
      simp (disch := omega) only [mj_lcm, jI_lt, jI_le, jI_eq, jL_lt, jL_le, jL_eq, jI_lt0, jI_0le, jI_0lt, jI_le0, jI_eq0, jL_eq0, jI_L, jI_add, jI_sub, jI_mul, jI_neg, jL_add, jL_sub, jL_mul, jL_neg, jL_I, jI_div, jI_mod, jL_div, jL_mod] at c
      obtain ⟨o1, o2, o3, o4, o5⟩ := un (by omega)
      refine ⟨rfl, ?_, ?_, ?_, ?_, ?_, F1⟩
      · rw [o1, ← ht0]
        exact n4
      · rw [o2, ← hu0]
        exact n5
      · rw [o3]
        exact n6
      · rw [o4]
        exact n7
      · rw [o5]
        exact e19
  have r57 : ∀ (h1 : mj_H) (x1 x2 x3 x4 x5 x6' x7' x8 x9 : Option Value), isN h1 4 t0 → isN h1 6 0 → isN h1 7 0 → hI h1 1412 19 = jI 0 → FrM i19 noT s39 h h1 → Run 57 [some (.ref 1412), x1, x2, x3, x4, x5, x6', x7', x8, x9] [] h1 (0, 0) := by
    intro h1 x1 x2 x3 x4 x5 x6' x7' x8 x9 n4 n6 n7 e19 F1
    have L1 := F1.lay L
    have w1 := (hMw F1).1
    have go : ∀ v : Int, v = u0 → mj_Ct G (mj_mt 213) 0 0 [.ref 1412, .int (jI 5), .long (jL v)] h1 (fun o h' => o = .returned none ∧ isN h' 5 u0 ∧ FrN 5 h1 h') := by
      rintro v rfl
      refine ct_213 G L1.Md (i := 5) (by omega) ?_ ?_
      · rw [hu0]
        split <;> decide
      · rw [hu0]
        split <;> decide
    have cont : ∀ h3 : mj_H, isN h3 5 u0 → FrN 5 h1 h3 → Run 89 [some (.ref 1412), x1, x2, x3, x4, x5, x6', x7', x8, x9] [] h3 (0, 0) := fun h3 k5 F3 => r89 h3 _ _ _ _ _ _ _ _ _ (n4.o F3 (by omega)) k5 (n6.o F3 (by omega)) (n7.o F3 (by omega)) (h19 F3 e19) (F1.trans F3.toM)
    refine hR 60 29 _ _ _ _ _ _ rfl ?_
    refine ⟨L1.K 1412 rfl, fun c => ⟨L1.K 1412 rfl, jcallP (go 1 ?_) ?_⟩, fun c => ⟨L1.K 1412 rfl, fun c2 => ⟨L1.K 1412 rfl, jcallP (go 1 ?_) ?_⟩, fun c2 => ⟨L1.K 1412 rfl, jcallP (go 0 ?_) ?_⟩⟩⟩
    · simp only [mj_lcm, w1] at c
      simp (disch := omega) only [mj_lcm, jI_lt, jI_le, jI_eq, jL_lt, jL_le, jL_eq, jI_lt0, jI_0le, jI_0lt, jI_le0, jI_eq0, jL_eq0, jI_L, jI_add, jI_sub, jI_mul, jI_neg, jL_add, jL_sub, jL_mul, jL_neg, jL_I, jI_div, jI_mod, jL_div, jL_mod] at c
      rw [hu0, if_pos (Or.inl c)]
    · rintro o h3 ⟨rfl, k5, F3⟩
      exact cont h3 k5 F3
    · rw [w1] at c2
      simp (disch := omega) only [mj_lcm, jI_lt, jI_le, jI_eq, jL_lt, jL_le, jL_eq, jI_lt0, jI_0le, jI_0lt, jI_le0, jI_eq0, jL_eq0, jI_L, jI_add, jI_sub, jI_mul, jI_neg, jL_add, jL_sub, jL_mul, jL_neg, jL_I, jI_div, jI_mod, jL_div, jL_mod] at c2
      rw [hu0, if_pos (Or.inr c2)]
    · rintro o h3 ⟨rfl, k5, F3⟩
      exact cont h3 k5 F3
    · simp only [mj_lcm, w1] at c
      rw [w1] at c2
      simp (disch := omega) only [mj_lcm, jI_lt, jI_le, jI_eq, jL_lt, jL_le, jL_eq, jI_lt0, jI_0le, jI_0lt, jI_le0, jI_eq0, jL_eq0, jI_L, jI_add, jI_sub, jI_mul, jI_neg, jL_add, jL_sub, jL_mul, jL_neg, jL_I, jI_div, jI_mod, jL_div, jL_mod] at c c2
      rw [hu0, if_neg (by omega)]
    · rintro o h3 ⟨rfl, k5, F3⟩
      exact cont h3 k5 F3
  have r19 : ∀ (h1 : mj_H) (x1 x2 x3 x4 x5 x6' x7' x8 x9 : Option Value), isN h1 6 0 → isN h1 7 0 → hI h1 1412 19 = jI 0 → FrM i19 noT s39 h h1 → Run 19 [some (.ref 1412), x1, x2, x3, x4, x5, x6', x7', x8, x9] [] h1 (0, 0) := by
    intro h1 x1 x2 x3 x4 x5 x6' x7' x8 x9 n6 n7 e19 F1
    have L1 := F1.lay L
    have w1 := (hMw F1).1
    have go : ∀ v : Int, v = t0 → mj_Ct G (mj_mt 213) 0 0 [.ref 1412, .int (jI 4), .long (jL v)] h1 (fun o h' => o = .returned none ∧ isN h' 4 t0 ∧ FrN 4 h1 h') := by
      rintro v rfl
      refine ct_213 G L1.Md (i := 4) (by omega) ?_ ?_
      · rw [ht0]
        split
        · decide
        · split <;> decide
      · rw [ht0]
        split
        · decide
        · split <;> decide
    have cont : ∀ h3 : mj_H, isN h3 4 t0 → FrN 4 h1 h3 → Run 57 [some (.ref 1412), x1, x2, x3, x4, x5, x6', x7', x8, x9] [] h3 (0, 0) := fun h3 k4 F3 => r57 h3 _ _ _ _ _ _ _ _ _ k4 (n6.o F3 (by omega)) (n7.o F3 (by omega)) (h19 F3 e19) (F1.trans F3.toM)
    refine hR 60 11 _ _ _ _ _ _ rfl ?_
    refine ⟨L1.K 1412 rfl, fun c => ⟨L1.K 1412 rfl, jcallP (go 1 ?_) ?_⟩, fun c => ⟨L1.K 1412 rfl, fun c2 => ⟨L1.K 1412 rfl, jcallP (go 0 ?_) ?_⟩, fun c2 => ⟨L1.K 1412 rfl, jcallP (go 2 ?_) ?_⟩⟩⟩
    · rw [w1] at c
      simp (disch := omega) only [mj_lcm, jI_lt, jI_le, jI_eq, jL_lt, jL_le, jL_eq, jI_lt0, jI_0le, jI_0lt, jI_le0, jI_eq0, jL_eq0, jI_L, jI_add, jI_sub, jI_mul, jI_neg, jL_add, jL_sub, jL_mul, jL_neg, jL_I, jI_div, jI_mod, jL_div, jL_mod] at c
      rw [ht0, if_pos c]
    · rintro o h3 ⟨rfl, k4, F3⟩
      exact cont h3 k4 F3
    · rw [w1] at c c2
      simp (disch := omega) only [mj_lcm, jI_lt, jI_le, jI_eq, jL_lt, jL_le, jL_eq, jI_lt0, jI_0le, jI_0lt, jI_le0, jI_eq0, jL_eq0, jI_L, jI_add, jI_sub, jI_mul, jI_neg, jL_add, jL_sub, jL_mul, jL_neg, jL_I, jI_div, jI_mod, jL_div, jL_mod] at c c2
      rw [ht0, if_neg c, if_pos c2]
    · rintro o h3 ⟨rfl, k4, F3⟩
      exact cont h3 k4 F3
    · rw [w1] at c c2
      simp (disch := omega) only [mj_lcm, jI_lt, jI_le, jI_eq, jL_lt, jL_le, jL_eq, jI_lt0, jI_0le, jI_0lt, jI_le0, jI_eq0, jL_eq0, jI_L, jI_add, jI_sub, jI_mul, jI_neg, jL_add, jL_sub, jL_mul, jL_neg, jL_I, jI_div, jI_mod, jL_div, jL_mod] at c c2
      rw [ht0, if_neg c, if_neg c2]
    · rintro o h3 ⟨rfl, k4, F3⟩
      exact cont h3 k4 F3
  have r12 : ∀ (h1 : mj_H) (x1 x2 x3 x4 x5 x6' x7' x8 x9 : Option Value), isN h1 6 0 → hI h1 1412 19 = jI 0 → FrM i19 noT s39 h h1 → Run 12 [some (.ref 1412), x1, x2, x3, x4, x5, x6', x7', x8, x9] [] h1 (0, 0) := by
    intro h1 x1 x2 x3 x4 x5 x6' x7' x8 x9 n6 e19 F1
    have L1 := F1.lay L
    refine hR 60 7 _ _ _ _ _ _ rfl ?_
    refine ⟨L1.K 1412 rfl, jcallP (ct_213 G L1.Md (i := 7) (by omega) (v := 0) (by decide) (by decide)) ?_⟩
    rintro o h3 ⟨rfl, k7, F3⟩
    exact r19 h3 _ _ _ _ _ _ _ _ _ (n6.o F3 (by omega)) k7 (h19 F3 e19) (F1.trans F3.toM)
  have r5 : ∀ (h1 : mj_H) (x1 x2 x3 x4 x5 x6' x7' x8 x9 : Option Value), hI h1 1412 19 = jI 0 → FrM i19 noT s39 h h1 → Run 5 [some (.ref 1412), x1, x2, x3, x4, x5, x6', x7', x8, x9] [] h1 (0, 0) := by
    intro h1 x1 x2 x3 x4 x5 x6' x7' x8 x9 e19 F1
    have L1 := F1.lay L
    refine hR 60 3 _ _ _ _ _ _ rfl ?_
    refine ⟨L1.K 1412 rfl, jcallP (ct_213 G L1.Md (i := 6) (by omega) (v := 0) (by decide) (by decide)) ?_⟩
    rintro o h3 ⟨rfl, k6, F3⟩
    exact r12 h3 _ _ _ _ _ _ _ _ _ k6 (h19 F3 e19) (F1.trans F3.toM)
  refine hR 60 0 _ _ _ _ _ _ rfl ?_
  refine ⟨L.K 1412 rfl, Or.inl rfl, ?_⟩
  exact r5 _ _ _ _ _ _ _ _ _ _ (sI_at _ _ _ _) ((FrM.refl i19 noT s39 h).fI (k := 19) rfl _)
