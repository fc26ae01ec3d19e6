/-! the model: numbers of the form at hand (the last part of hold) -/
def stepR (t : Int) (i : Nat) (R : Nat → Int) : Nat → Int := upN (upN R (i + 2) (-(R i))) i (t * R i + R (i + 2))
def wyR (tw : Nat → Int) : Nat → Nat → Int
  | 0 => fun j => if j = 0 ∨ j = 3 then 1 else 0
  | k + 1 => stepR (tw k) 1 (stepR (tw k) 0 (wyR tw k))
/-- rows 0 to 3 hold R, rows 4 and 5 the unit, and the others are as they were -/
def isWy (h h' : mj_H) (R : Nat → Int) (t u : Int) : Prop := (∀ j, j < 4 → isN h' j (R j)) ∧ isN h' 4 t ∧ isN h' 5 u ∧ (∀ c, 6600 ≤ c ∧ c < 8800 → hI h' 1439 c = hI h 1439 c) ∧ FrM noT noT s39 h h'
theorem FrN.to39 {t : Nat} {h h' : mj_H} (f : FrN t h h') : FrM noT noT s39 h h' := FrI.toM f.1 (by simp) (fun x hx => List.mem_singleton.1 hx)
abbrev iHo (k : Nat) : Prop := k = 23 ∨ k = 24 ∨ k = 26 ∨ k = 27 ∨ k = 34 ∨ k = 35
abbrev jHo (k : Nat) : Prop := (20 ≤ k ∧ k ≤ 22) ∨ (50 ≤ k ∧ k ≤ 53)
abbrev sHo (c : Nat) : Prop := (1423 ≤ c ∧ c ≤ 1426) ∨ c = 1439
abbrev sH3 (c : Nat) : Prop := 1423 ≤ c ∧ c ≤ 1426
abbrev iH2 (k : Nat) : Prop := k = 26 ∨ k = 27
abbrev sH2 (c : Nat) : Prop := 1424 ≤ c ∧ c ≤ 1426
/-- the ring of a reduced form g: r forms, the last of which goes on to the first one; their turns and places -/
def rgP (d w : Int) (n : Nat) (A : Nat → pI) (g : Fm) (r : Nat) (pl : Nat → Nat) : Prop := (0 < r ∧ r ≤ 40960) ∧ (∀ i, i < r → okF (itF d w i g) ∧ pl i < n ∧ itF d w i g = fmP d (A (pl i)) ∧ (-2147483648 ≤ nkE d w (itF d w i g).2.1 (itF d w i g).2.2 ∧ nkE d w (itF d w i g).2.1 (itF d w i g).2.2 < 2147483648)) ∧ ((itF d w r g).1 = g.1 ∧ (itF d w r g).2.1 = g.2.1) ∧ ∀ i, 0 < i → i < r → ¬ ((itF d w i g).1 = g.1 ∧ (itF d w i g).2.1 = g.2.1)
def tnF (d w : Int) (g : Fm) (i : Nat) : Int := nkE d w (itF d w i g).2.1 (itF d w i g).2.2
theorem aI_ext {h : mj_H} {c : Nat} {X : Nat → Int32} {i : Nat} (a : ∀ j, j < i → hI h c j = X j) : ∀ j, j < i + 1 → hI (sI h c i (X i)) c j = X j := by
  intro j hj
  by_cases z : j = i
  · rw [z, sI_at]
  · rw [sI_k _ _ z]
    exact a j (by omega)
theorem aJ_ext {h : mj_H} {c : Nat} {X : Nat → Int64} {i : Nat} (a : ∀ j, j < i → hJ h c j = X j) : ∀ j, j < i + 1 → hJ (sJ h c i (X i)) c j = X j := by
  intro j hj
  by_cases z : j = i
  · rw [z, sJ_at]
  · rw [sJ_k _ _ z]
    exact a j (by omega)
section
variable {d w : Int} {n : Nat} {A : Nat → pI} {nxt : Nat → Nat} {cls : Nat → Int} {cnt : Nat} {nm : Nat → Nat}
abbrev l220 (f : Fm) (x7 x8 x9 x10 : Option Value) : mj_Ls := [some (.ref 1412), some (.long (jL f.1)), none, some (.long (jL f.2.1)), none, some (.long (jL f.2.2)), none, x7, x8, x9, x10]
/-- FormHouseModel.hold(JJJ)V; cuts at [16, 26, 42, 47, 54, 58, 71, 84, 97, 110, 119, 125, 131, 145, 159, 175, 188, 192, 206, 216, 236, 242, 248, 254, 260, 263, 272, 304, 306, 309, 315, 330, 346, 354, 360, 366, 380, 386, 400, 413, 426] -/
def cl_220_9 : List mj_E := (394, false, .iconst 5, 1, 0, 0, 0, jI 5, 0) ::
  (395, false, .lconst 0, 1, 0, 0, 0, 0, jL 0) ::
  (396, false, .iconst 5, 1, 0, 0, 0, jI 5, 0) ::
  (397, false, .invokevirtual 274, 3, 215, 5, 17, 0, 0) ::
  (400, true, .aload_n 0, 1, 0, 0, 0, 0, 0) ::
  (401, false, .bipush 10, 2, 0, 0, 0, jI 10, 0) ::
  (403, false, .aload_n 0, 1, 0, 0, 0, 0, 0) ::
  (404, false, .getfield 55, 3, 17, 20, 1, 0, 0) ::
  (407, false, .iconst 5, 1, 0, 0, 0, jI 5, 0) ::
  (408, false, .lconst 0, 1, 0, 0, 0, 0, jL 0) ::
  (409, false, .iconst 5, 1, 0, 0, 0, jI 5, 0) ::
  (410, false, .invokevirtual 274, 3, 215, 5, 17, 0, 0) ::
  (413, true, .aload_n 0, 1, 0, 0, 0, 0, 0) ::
  (414, false, .bipush 11, 2, 0, 0, 0, jI 11, 0) ::
  (416, false, .lconst 1, 1, 0, 0, 0, 0, jL 1) ::
  (417, false, .iconst 4, 1, 0, 0, 0, jI 4, 0) ::
  (418, false, .aload_n 0, 1, 0, 0, 0, 0, 0) ::
  (419, false, .getfield 285, 3, 17, 21, 1, 0, 0) ::
  (422, false, .iconst 5, 1, 0, 0, 0, jI 5, 0) ::
  (423, false, .invokevirtual 274, 3, 215, 5, 17, 0, 0) ::
  (426, true, .aload_n 0, 1, 0, 0, 0, 0, 0) ::
  (427, false, .bipush 11, 2, 0, 0, 0, jI 11, 0) ::
  (429, false, .invokevirtual 306, 3, 221, 1, 17, 0, 0) ::
  (432, false, .return_, 1, 0, 0, 0, 0, 0) ::
  []
def cl_220_8 : List mj_E := (347, false, .iload 10, 2, 0, 0, 0, 0, 0) ::
  (349, false, .bipush 14, 2, 0, 0, 0, jI 14, 0) ::
  (351, false, .invokevirtual 278, 3, 217, 2, 17, 0, 0) ::
  (354, true, .iinc 10 1, 3, 0, 0, 0, jI 1, 0) ::
  (357, false, .goto (-48), 3, 170, 0, 0, 0, 0) ::
  (360, true, .iinc 7 1, 3, 0, 0, 0, jI 1, 0) ::
  (363, false, .goto (-100), 3, 146, 0, 0, 0, 0) ::
  (366, true, .aload_n 0, 1, 0, 0, 0, 0, 0) ::
  (367, false, .bipush 8, 2, 0, 0, 0, jI 8, 0) ::
  (369, false, .lconst 1, 1, 0, 0, 0, 0, jL 1) ::
  (370, false, .iconst 4, 1, 0, 0, 0, jI 4, 0) ::
  (371, false, .aload_n 0, 1, 0, 0, 0, 0, 0) ::
  (372, false, .getfield 285, 3, 17, 21, 1, 0, 0) ::
  (375, false, .lneg, 1, 0, 0, 0, 0, 0) ::
  (376, false, .iconst 5, 1, 0, 0, 0, jI 5, 0) ::
  (377, false, .invokevirtual 274, 3, 215, 5, 17, 0, 0) ::
  (380, true, .aload_n 0, 1, 0, 0, 0, 0, 0) ::
  (381, false, .bipush 8, 2, 0, 0, 0, jI 8, 0) ::
  (383, false, .invokevirtual 306, 3, 221, 1, 17, 0, 0) ::
  (386, true, .aload_n 0, 1, 0, 0, 0, 0, 0) ::
  (387, false, .bipush 9, 2, 0, 0, 0, jI 9, 0) ::
  (389, false, .aload_n 0, 1, 0, 0, 0, 0, 0) ::
  (390, false, .getfield 58, 3, 17, 22, 1, 0, 0) ::
  (393, false, .lneg, 1, 0, 0, 0, 0, 0) ::
  cl_220_9
def cl_220_7 : List mj_E := (306, true, .iconst 0, 1, 0, 0, 0, jI 0, 0) ::
  (307, false, .istore 10, 2, 0, 0, 0, 0, 0) ::
  (309, true, .iload 10, 2, 0, 0, 0, 0, 0) ::
  (311, false, .iconst 2, 1, 0, 0, 0, jI 2, 0) ::
  (312, false, .if_icmp .ge 48, 3, 197, 0, 0, 0, 0) ::
  (315, true, .aload_n 0, 1, 0, 0, 0, 0, 0) ::
  (316, false, .bipush 14, 2, 0, 0, 0, jI 14, 0) ::
  (318, false, .lload 8, 2, 0, 0, 0, 0, 0) ::
  (320, false, .iload 10, 2, 0, 0, 0, 0, 0) ::
  (322, false, .lconst 1, 1, 0, 0, 0, 0, jL 1) ::
  (323, false, .iload 10, 2, 0, 0, 0, 0, 0) ::
  (325, false, .iconst 2, 1, 0, 0, 0, jI 2, 0) ::
  (326, false, .iadd, 1, 0, 0, 0, 0, 0) ::
  (327, false, .invokevirtual 274, 3, 215, 5, 17, 0, 0) ::
  (330, true, .aload_n 0, 1, 0, 0, 0, 0, 0) ::
  (331, false, .iload 10, 2, 0, 0, 0, 0, 0) ::
  (333, false, .iconst 2, 1, 0, 0, 0, jI 2, 0) ::
  (334, false, .iadd, 1, 0, 0, 0, 0, 0) ::
  (335, false, .ldc2_w 15, 3, 0, 0, 0, 0, jL (-1)) ::
  (338, false, .iload 10, 2, 0, 0, 0, 0, 0) ::
  (340, false, .lconst 0, 1, 0, 0, 0, 0, jL 0) ::
  (341, false, .iload 10, 2, 0, 0, 0, 0, 0) ::
  (343, false, .invokevirtual 274, 3, 215, 5, 17, 0, 0) ::
  (346, true, .aload_n 0, 1, 0, 0, 0, 0, 0) ::
  cl_220_8
def cl_220_6 : List mj_E := (260, true, .iconst 0, 1, 0, 0, 0, jI 0, 0) ::
  (261, false, .istore 7, 2, 0, 0, 0, 0, 0) ::
  (263, true, .iload 7, 2, 0, 0, 0, 0, 0) ::
  (265, false, .aload_n 0, 1, 0, 0, 0, 0, 0) ::
  (266, false, .getfield 303, 3, 17, 26, 0, 0, 0) ::
  (269, false, .if_icmp .ge 97, 3, 199, 0, 0, 0, 0) ::
  (272, true, .iload 7, 2, 0, 0, 0, 0, 0) ::
  (274, false, .aload_n 0, 1, 0, 0, 0, 0, 0) ::
  (275, false, .getfield 294, 3, 17, 24, 0, 0, 0) ::
  (278, false, .if_icmp .ge 13, 3, 159, 0, 0, 0, 0) ::
  (281, false, .aload_n 0, 1, 0, 0, 0, 0, 0) ::
  (282, false, .getfield 61, 3, 17, 25, 2, 0, 0) ::
  (285, false, .iload 7, 2, 0, 0, 0, 0, 0) ::
  (287, false, .laload, 1, 0, 0, 0, 0, 0) ::
  (288, false, .goto 16, 3, 167, 0, 0, 0, 0) ::
  (291, false, .aload_n 0, 1, 0, 0, 0, 0, 0) ::
  (292, false, .getfield 70, 3, 17, 30, 2, 0, 0) ::
  (295, false, .iload 7, 2, 0, 0, 0, 0, 0) ::
  (297, false, .aload_n 0, 1, 0, 0, 0, 0, 0) ::
  (298, false, .getfield 294, 3, 17, 24, 0, 0, 0) ::
  (301, false, .isub, 1, 0, 0, 0, 0, 0) ::
  (302, false, .iaload, 1, 0, 0, 0, 0, 0) ::
  (303, false, .i2l, 1, 0, 0, 0, 0, 0) ::
  (304, true, .lstore 8, 2, 0, 0, 0, 0, 0) ::
  cl_220_7
def cl_220_5 : List mj_E := (220, false, .lload 7, 2, 0, 0, 0, 0, 0) ::
  (222, false, .lcmp, 1, 0, 0, 0, 0, 0) ::
  (223, false, .ifCond .ne (-92), 3, 71, 0, 0, 0, 0) ::
  (226, false, .aload_n 0, 1, 0, 0, 0, 0, 0) ::
  (227, false, .getfield 135, 3, 17, 51, 1, 0, 0) ::
  (230, false, .lload 9, 2, 0, 0, 0, 0, 0) ::
  (232, false, .lcmp, 1, 0, 0, 0, 0, 0) ::
  (233, false, .ifCond .ne (-102), 3, 71, 0, 0, 0, 0) ::
  (236, true, .aload_n 0, 1, 0, 0, 0, 0, 0) ::
  (237, false, .iconst 0, 1, 0, 0, 0, jI 0, 0) ::
  (238, false, .lconst 1, 1, 0, 0, 0, 0, jL 1) ::
  (239, false, .invokevirtual 268, 3, 213, 2, 17, 0, 0) ::
  (242, true, .aload_n 0, 1, 0, 0, 0, 0, 0) ::
  (243, false, .iconst 1, 1, 0, 0, 0, jI 1, 0) ::
  (244, false, .lconst 0, 1, 0, 0, 0, 0, jL 0) ::
  (245, false, .invokevirtual 268, 3, 213, 2, 17, 0, 0) ::
  (248, true, .aload_n 0, 1, 0, 0, 0, 0, 0) ::
  (249, false, .iconst 2, 1, 0, 0, 0, jI 2, 0) ::
  (250, false, .lconst 0, 1, 0, 0, 0, 0, jL 0) ::
  (251, false, .invokevirtual 268, 3, 213, 2, 17, 0, 0) ::
  (254, true, .aload_n 0, 1, 0, 0, 0, 0, 0) ::
  (255, false, .iconst 3, 1, 0, 0, 0, jI 3, 0) ::
  (256, false, .lconst 1, 1, 0, 0, 0, 0, jL 1) ::
  (257, false, .invokevirtual 268, 3, 213, 2, 17, 0, 0) ::
  cl_220_6
def cl_220_4 : List mj_E := (176, false, .aload_n 0, 1, 0, 0, 0, 0, 0) ::
  (177, false, .getfield 294, 3, 17, 24, 0, 0, 0) ::
  (180, false, .aload_n 0, 1, 0, 0, 0, 0, 0) ::
  (181, false, .getfield 300, 3, 17, 27, 0, 0, 0) ::
  (184, false, .iadd, 1, 0, 0, 0, 0, 0) ::
  (185, false, .putfield 303, 3, 17, 26, 0, 0, 0) ::
  (188, true, .aload_n 0, 1, 0, 0, 0, 0, 0) ::
  (189, false, .invokevirtual 172, 3, 199, 0, 17, 0, 0) ::
  (192, true, .aload_n 0, 1, 0, 0, 0, 0, 0) ::
  (193, false, .getfield 70, 3, 17, 30, 2, 0, 0) ::
  (196, false, .aload_n 0, 1, 0, 0, 0, 0, 0) ::
  (197, false, .getfield 300, 3, 17, 27, 0, 0, 0) ::
  (200, false, .aload_n 0, 1, 0, 0, 0, 0, 0) ::
  (201, false, .getfield 147, 3, 17, 53, 1, 0, 0) ::
  (204, false, .l2i, 1, 0, 0, 0, 0, 0) ::
  (205, false, .iastore, 1, 0, 0, 0, 0, 0) ::
  (206, true, .aload_n 0, 1, 0, 0, 0, 0, 0) ::
  (207, false, .dup, 1, 0, 0, 0, 0, 0) ::
  (208, false, .getfield 300, 3, 17, 27, 0, 0, 0) ::
  (211, false, .iconst 1, 1, 0, 0, 0, jI 1, 0) ::
  (212, false, .iadd, 1, 0, 0, 0, 0, 0) ::
  (213, false, .putfield 300, 3, 17, 27, 0, 0, 0) ::
  (216, true, .aload_n 0, 1, 0, 0, 0, 0, 0) ::
  (217, false, .getfield 132, 3, 17, 50, 1, 0, 0) ::
  cl_220_5
def cl_220_3 : List mj_E := (132, false, .getfield 64, 3, 17, 28, 2, 0, 0) ::
  (135, false, .aload_n 0, 1, 0, 0, 0, 0, 0) ::
  (136, false, .getfield 300, 3, 17, 27, 0, 0, 0) ::
  (139, false, .aload_n 0, 1, 0, 0, 0, 0, 0) ::
  (140, false, .getfield 132, 3, 17, 50, 1, 0, 0) ::
  (143, false, .l2i, 1, 0, 0, 0, 0, 0) ::
  (144, false, .iastore, 1, 0, 0, 0, 0, 0) ::
  (145, true, .aload_n 0, 1, 0, 0, 0, 0, 0) ::
  (146, false, .getfield 67, 3, 17, 29, 2, 0, 0) ::
  (149, false, .aload_n 0, 1, 0, 0, 0, 0, 0) ::
  (150, false, .getfield 300, 3, 17, 27, 0, 0, 0) ::
  (153, false, .aload_n 0, 1, 0, 0, 0, 0, 0) ::
  (154, false, .getfield 135, 3, 17, 51, 1, 0, 0) ::
  (157, false, .l2i, 1, 0, 0, 0, 0, 0) ::
  (158, false, .iastore, 1, 0, 0, 0, 0, 0) ::
  (159, true, .aload_n 0, 1, 0, 0, 0, 0, 0) ::
  (160, false, .invokevirtual 175, 3, 201, 0, 17, 0, 0) ::
  (163, false, .aload_n 0, 1, 0, 0, 0, 0, 0) ::
  (164, false, .getfield 31, 3, 17, 8, 2, 0, 0) ::
  (167, false, .aload_n 0, 1, 0, 0, 0, 0, 0) ::
  (168, false, .getfield 297, 3, 17, 23, 0, 0, 0) ::
  (171, false, .iaload, 1, 0, 0, 0, 0, 0) ::
  (172, false, .if_icmp .ne 16, 3, 102, 0, 0, 0, 0) ::
  (175, true, .aload_n 0, 1, 0, 0, 0, 0, 0) ::
  cl_220_4
def cl_220_2 : List mj_E := (86, false, .getfield 28, 3, 17, 6, 2, 0, 0) ::
  (89, false, .aload_n 0, 1, 0, 0, 0, 0, 0) ::
  (90, false, .invokevirtual 175, 3, 201, 0, 17, 0, 0) ::
  (93, false, .iaload, 1, 0, 0, 0, 0, 0) ::
  (94, false, .putfield 297, 3, 17, 23, 0, 0, 0) ::
  (97, true, .aload_n 0, 1, 0, 0, 0, 0, 0) ::
  (98, false, .iconst 0, 1, 0, 0, 0, jI 0, 0) ::
  (99, false, .putfield 300, 3, 17, 27, 0, 0, 0) ::
  (102, false, .aload_n 0, 1, 0, 0, 0, 0, 0) ::
  (103, false, .aload_n 0, 1, 0, 0, 0, 0, 0) ::
  (104, false, .getfield 294, 3, 17, 24, 0, 0, 0) ::
  (107, false, .putfield 303, 3, 17, 26, 0, 0, 0) ::
  (110, true, .aload_n 0, 1, 0, 0, 0, 0, 0) ::
  (111, false, .getfield 9, 3, 17, 1, 1, 0, 0) ::
  (114, false, .lconst 0, 1, 0, 0, 0, 0, jL 0) ::
  (115, false, .lcmp, 1, 0, 0, 0, 0, 0) ::
  (116, false, .ifCond .le 120, 3, 128, 0, 0, 0, 0) ::
  (119, true, .aload_n 0, 1, 0, 0, 0, 0, 0) ::
  (120, false, .getfield 132, 3, 17, 50, 1, 0, 0) ::
  (123, false, .lstore 7, 2, 0, 0, 0, 0, 0) ::
  (125, true, .aload_n 0, 1, 0, 0, 0, 0, 0) ::
  (126, false, .getfield 135, 3, 17, 51, 1, 0, 0) ::
  (129, false, .lstore 9, 2, 0, 0, 0, 0, 0) ::
  (131, true, .aload_n 0, 1, 0, 0, 0, 0, 0) ::
  cl_220_3
def cl_220_1 : List mj_E := (42, true, .aload_n 0, 1, 0, 0, 0, 0, 0) ::
  (43, false, .iconst 0, 1, 0, 0, 0, jI 0, 0) ::
  (44, false, .putfield 294, 3, 17, 24, 0, 0, 0) ::
  (47, true, .aload_n 0, 1, 0, 0, 0, 0, 0) ::
  (48, false, .invokevirtual 162, 3, 195, 0, 17, 0, 0) ::
  (51, false, .ifCond .ne 33, 3, 46, 0, 0, 0, 0) ::
  (54, true, .aload_n 0, 1, 0, 0, 0, 0, 0) ::
  (55, false, .invokevirtual 172, 3, 199, 0, 17, 0, 0) ::
  (58, true, .aload_n 0, 1, 0, 0, 0, 0, 0) ::
  (59, false, .getfield 61, 3, 17, 25, 2, 0, 0) ::
  (62, false, .aload_n 0, 1, 0, 0, 0, 0, 0) ::
  (63, false, .getfield 294, 3, 17, 24, 0, 0, 0) ::
  (66, false, .aload_n 0, 1, 0, 0, 0, 0, 0) ::
  (67, false, .getfield 147, 3, 17, 53, 1, 0, 0) ::
  (70, false, .lastore, 1, 0, 0, 0, 0, 0) ::
  (71, true, .aload_n 0, 1, 0, 0, 0, 0, 0) ::
  (72, false, .dup, 1, 0, 0, 0, 0, 0) ::
  (73, false, .getfield 294, 3, 17, 24, 0, 0, 0) ::
  (76, false, .iconst 1, 1, 0, 0, 0, jI 1, 0) ::
  (77, false, .iadd, 1, 0, 0, 0, 0, 0) ::
  (78, false, .putfield 294, 3, 17, 24, 0, 0, 0) ::
  (81, false, .goto (-34), 3, 27, 0, 0, 0, 0) ::
  (84, true, .aload_n 0, 1, 0, 0, 0, 0, 0) ::
  (85, false, .aload_n 0, 1, 0, 0, 0, 0, 0) ::
  cl_220_2
def cl_220_0 : List mj_E := (0, false, .aload_n 0, 1, 0, 0, 0, 0, 0) ::
  (1, false, .lload_n 1, 1, 0, 0, 0, 0, 0) ::
  (2, false, .putfield 55, 3, 17, 20, 1, 0, 0) ::
  (5, false, .aload_n 0, 1, 0, 0, 0, 0, 0) ::
  (6, false, .lload_n 3, 1, 0, 0, 0, 0, 0) ::
  (7, false, .putfield 285, 3, 17, 21, 1, 0, 0) ::
  (10, false, .aload_n 0, 1, 0, 0, 0, 0, 0) ::
  (11, false, .lload 5, 2, 0, 0, 0, 0, 0) ::
  (13, false, .putfield 58, 3, 17, 22, 1, 0, 0) ::
  (16, true, .aload_n 0, 1, 0, 0, 0, 0, 0) ::
  (17, false, .iconst 0, 1, 0, 0, 0, jI 0, 0) ::
  (18, false, .putfield 288, 3, 17, 35, 0, 0, 0) ::
  (21, false, .aload_n 0, 1, 0, 0, 0, 0, 0) ::
  (22, false, .iconst 0, 1, 0, 0, 0, jI 0, 0) ::
  (23, false, .putfield 291, 3, 17, 34, 0, 0, 0) ::
  (26, true, .aload_n 0, 1, 0, 0, 0, 0, 0) ::
  (27, false, .lload_n 1, 1, 0, 0, 0, 0, 0) ::
  (28, false, .putfield 132, 3, 17, 50, 1, 0, 0) ::
  (31, false, .aload_n 0, 1, 0, 0, 0, 0, 0) ::
  (32, false, .lload_n 3, 1, 0, 0, 0, 0, 0) ::
  (33, false, .putfield 135, 3, 17, 51, 1, 0, 0) ::
  (36, false, .aload_n 0, 1, 0, 0, 0, 0, 0) ::
  (37, false, .lload 5, 2, 0, 0, 0, 0, 0) ::
  (39, false, .putfield 140, 3, 17, 52, 1, 0, 0) ::
  cl_220_1
def cd_220 : List mj_E := cl_220_0
def cx_220 : mj_X := (0, [], [])
theorem tb_220 : mj_tab (mj_mt 220) cx_220 cd_220 mj_mh [(0, 0, 0), (0, 0, 0), (7119, 0, 0), (0, 0, 0), (0, 0, 0), (7120, 0, 0), (0, 0, 0), (0, 0, 0), (7121, 0, 0), (0, 0, 0), (0, 0, 0), (7134, 0, 0), (0, 0, 0), (0, 0, 0), (7133, 0, 0), (0, 0, 0), (0, 0, 0), (7149, 0, 0), (0, 0, 0), (0, 0, 0), (7150, 0, 0), (0, 0, 0), (0, 0, 0), (7151, 0, 0), (0, 0, 0), (0, 0, 0), (7123, 0, 0), (0, 0, 0), (6229, 0, 0), (0, 0, 0), (0, 0, 0), (7003, 0, 0), (0, 0, 0), (7124, 0, 0), (0, 0, 0), (7123, 0, 0), (0, 0, 0), (7152, 0, 0), (0, 0, 0), (0, 0, 0), (0, 0, 0), (7123, 0, 0), (0, 0, 0), (0, 0, 0), (7123, 0, 0), (0, 0, 0), (0, 0, 0), (0, 0, 0), (7105, 0, 0), (0, 0, 0), (7010, 0, 0), (0, 0, 0), (7122, 0, 0), (0, 0, 0), (0, 0, 0), (7126, 0, 0), (0, 0, 0), (0, 0, 0), (7123, 0, 0), (7125, 0, 0), (0, 0, 0), (7100, 0, 0), (0, 0, 0), (0, 0, 0), (0, 0, 0), (0, 0, 0), (7149, 0, 0), (0, 0, 0), (0, 0, 0), (7150, 0, 0), (0, 0, 0), (0, 0, 0), (7127, 0, 0), (0, 0, 0), (7126, 0, 0), (0, 0, 0), (7149, 0, 0), (0, 0, 0), (0, 0, 0), (0, 0, 0), (7128, 0, 0), (0, 0, 0), (7126, 0, 0), (0, 0, 0), (7150, 0, 0), (0, 0, 0), (0, 0, 0), (0, 0, 0), (7010, 0, 0), (0, 0, 0), (7107, 0, 0), (0, 0, 0), (7122, 0, 0), (0, 0, 0), (0, 0, 0), (0, 0, 0), (0, 0, 0), (7123, 0, 0), (0, 0, 0), (7126, 0, 0), (0, 0, 0), (7125, 0, 0), (0, 0, 0), (7003, 0, 0), (0, 0, 0), (7129, 0, 0), (0, 0, 0), (7126, 0, 0), (0, 0, 0), (7152, 0, 0), (0, 0, 0), (0, 0, 0), (0, 0, 0), (0, 0, 0), (7126, 0, 0), (0, 0, 0), (0, 0, 0), (7126, 0, 0), (0, 0, 0), (7149, 0, 0), (0, 0, 0), (0, 0, 0), (0, 0, 0), (0, 0, 0), (7150, 0, 0), (0, 0, 0), (0, 0, 0), (0, 0, 0), (0, 0, 0), (0, 0, 0), (0, 0, 0), (7057, 0, 0), (0, 0, 0), (0, 0, 0), (0, 0, 0), (7057, 0, 0), (0, 0, 0), (0, 0, 0), (0, 0, 0), (7057, 0, 0), (0, 0, 0), (0, 0, 0), (0, 0, 0), (7057, 0, 0), (0, 0, 0), (0, 0, 0), (0, 0, 0), (0, 0, 0), (7125, 0, 0), (0, 0, 0), (0, 0, 0), (0, 0, 0), (7123, 0, 0), (0, 0, 0), (0, 0, 0), (7124, 0, 0), (0, 0, 0), (0, 0, 0), (0, 0, 0), (0, 0, 0), (7129, 0, 0), (0, 0, 0), (0, 0, 0), (7123, 0, 0), (0, 0, 0), (0, 0, 0), (0, 0, 0), (0, 0, 0), (0, 0, 0), (0, 0, 0), (0, 0, 0), (0, 0, 0), (0, 0, 0), (0, 0, 0), (0, 0, 0), (0, 0, 0), (0, 0, 0), (0, 0, 0), (0, 0, 0), (0, 0, 0), (0, 0, 0), (7067, 0, 0), (0, 0, 0), (0, 0, 0), (0, 0, 0), (0, 0, 0), (6206, 0, 0), (0, 0, 0), (0, 0, 0), (0, 0, 0), (7067, 0, 0), (0, 0, 0), (0, 0, 0), (0, 0, 0), (7075, 0, 0), (0, 0, 0), (0, 0, 0), (0, 0, 0), (0, 0, 0), (0, 0, 0), (0, 0, 0), (0, 0, 0), (0, 0, 0), (0, 0, 0), (7120, 0, 0), (0, 0, 0), (0, 0, 0), (7067, 0, 0), (0, 0, 0), (0, 0, 0), (7091, 0, 0), (0, 0, 0), (0, 0, 0), (0, 0, 0), (7121, 0, 0), (0, 0, 0), (0, 0, 0), (0, 0, 0), (0, 0, 0), (7067, 0, 0), (0, 0, 0), (0, 0, 0), (0, 0, 0), (7119, 0, 0), (0, 0, 0), (0, 0, 0), (0, 0, 0), (7067, 0, 0), (0, 0, 0), (0, 0, 0), (0, 0, 0), (0, 0, 0), (0, 0, 0), (7120, 0, 0), (0, 0, 0), (7067, 0, 0), (0, 0, 0), (0, 0, 0), (7091, 0, 0), (0, 0, 0)] = true := mj_tab_f (by decide +kernel)
theorem ct_220 (G : mj_G) {h : mj_H} (L : isLam h) (T : isTF d w n A nxt cls cnt nm) (hT : isMT h d w n A cls cnt nm) (hwp : wdP d w) {f : Fm} (hfb : (-2199023255552 ≤ f.1 ∧ f.1 ≤ 2199023255552) ∧ (-2199023255552 ≤ f.2.1 ∧ f.2.1 ≤ 2199023255552) ∧ (-2199023255552 ≤ f.2.2 ∧ f.2.2 ≤ 2199023255552)) {m : Nat} (ht : trm d w m f) (hpo : d < 0 → posT d w m f) (hm : m ≤ 200) (han : ∀ i, i < m → -4294967296 ≤ tnF d w f i ∧ tnF d w f i ≤ 4294967296) {k c : Nat} (hk : k < n) (hkf : itF d w m f = fmP d (A k)) (hc : c < cnt) (hcls : cls k = (c : Nat)) {r i0 : Nat} {pl : Nat → Nat} (hrg : 0 < d → rgP d w n A (itF d w m f) r pl ∧ i0 < r ∧ ∀ i, i < r → (pl i = nm c ↔ i = i0)) {wl : Nat} (hwl : (0 < d → wl = m + i0) ∧ (d < 0 → wl = m)) {t u : Int} (n4 : isN h 4 t) (n5 : isN h 5 u) (r1 : inR (1 * t + -f.2.1 * u)) (r2 : inR (1 * t + f.2.1 * u)) : mj_Ct G (mj_mt 220) 0 0 [.ref 1412, .long (jL f.1), .long (jL f.2.1), .long (jL f.2.2)] h (fun o h' => o = .returned none ∧ (hJ h' 1412 20 = jL f.1 ∧ hJ h' 1412 21 = jL f.2.1 ∧ hJ h' 1412 22 = jL f.2.2) ∧ (hI h' 1412 35 = jI 0 ∧ hI h' 1412 34 = jI 0 ∧ hI h' 1412 23 = jI (c : Nat) ∧ hI h' 1412 24 = jI (m : Nat) ∧ hI h' 1412 26 = jI (wl : Nat)) ∧ (∀ i, i < m → hJ h' 1423 i = jL (tnF d w f i)) ∧ (0 < d → hI h' 1412 27 = jI (r : Nat) ∧ ∀ i, i < r → hI h' 1424 i = jI (itF d w i (itF d w m f)).1 ∧ hI h' 1425 i = jI (itF d w i (itF d w m f)).2.1 ∧ hI h' 1426 i = jI (tnF d w (itF d w m f) i)) ∧ (∀ j, j < 4 → isN h' j (wyR (tnF d w f) wl j)) ∧ isN h' 4 t ∧ isN h' 5 u ∧ isN h' 8 ((1 * t + -f.2.1 * u) / 2) ∧ isN h' 9 (-f.2.2 * u) ∧ isN h' 10 (f.1 * u) ∧ isN h' 11 ((1 * t + f.2.1 * u) / 2) ∧ (∀ c, 6600 ≤ c ∧ c < 8800 → hI h' 1439 c = hI h 1439 c) ∧ FrM iHo jHo sHo h h') := by
  obtain ⟨⟨hnsq, hdd, hd, hwb, hn, hcnt, hS, hx⟩, hv, hcl, hnm, heq, hred, hring, hall⟩ := id T
  have hd0 : d ≠ 0 := by
    intro z
    rcases hwp with q | q <;> omega
  obtain ⟨g, hg⟩ : ∃ g, g = itF d w m f := ⟨_, rfl⟩
  rw [← hg] at hrg hkf
  have tnS : ∀ i, tnF d w f (m + i) = tnF d w g i := by
    intro i
    unfold tnF
    rw [hg, itF_add]
  let K0 : mj_H → Prop := fun h' => (hJ h' 1412 20 = jL f.1 ∧ hJ h' 1412 21 = jL f.2.1 ∧ hJ h' 1412 22 = jL f.2.2) ∧ (hI h' 1412 35 = jI 0 ∧ hI h' 1412 34 = jI 0) ∧ FrM iHo jHo sHo h h'
  let K : mj_H → Prop := fun h' => (hJ h' 1412 20 = jL f.1 ∧ hJ h' 1412 21 = jL f.2.1 ∧ hJ h' 1412 22 = jL f.2.2) ∧ (hI h' 1412 35 = jI 0 ∧ hI h' 1412 34 = jI 0 ∧ hI h' 1412 23 = jI (c : Nat) ∧ hI h' 1412 24 = jI (m : Nat) ∧ hI h' 1412 26 = jI (wl : Nat)) ∧ (∀ i, i < m → hJ h' 1423 i = jL (tnF d w f i)) ∧ (0 < d → hI h' 1412 27 = jI (r : Nat) ∧ ∀ i, i < r → hI h' 1424 i = jI (itF d w i g).1 ∧ hI h' 1425 i = jI (itF d w i g).2.1 ∧ hI h' 1426 i = jI (tnF d w g i)) ∧ FrM iHo jHo sHo h h'
  have keep : ∀ {q : Nat} {h1 h2 : mj_H}, FrN q h1 h2 → K h1 → K h2 := by
    rintro q h1 h2 F ⟨⟨a1, a2, a3⟩, ⟨b1, b2, b3, b4, b5⟩, c1, e1, F1⟩
    have M := F.to39
    refine ⟨⟨(M.2.2.2 20 (fun z => z)).trans a1, (M.2.2.2 21 (fun z => z)).trans a2, (M.2.2.2 22 (fun z => z)).trans a3⟩, ⟨(M.2.2.1 35 (fun z => z)).trans b1, (M.2.2.1 34 (fun z => z)).trans b2, (M.2.2.1 23 (fun z => z)).trans b3, (M.2.2.1 24 (fun z => z)).trans b4, (M.2.2.1 26 (fun z => z)).trans b5⟩, fun i hi => (M.J (by decide) (by decide) _).trans (c1 i hi), fun hp => ⟨(M.2.2.1 27 (fun z => z)).trans (e1 hp).1, fun i hi => ?_⟩, F1.trans (M.mono (fun _ z => z.elim) (fun _ z => z.elim) (fun _ z => Or.inr z))⟩
    obtain ⟨p1, p2, p3⟩ := (e1 hp).2 i hi
    exact ⟨(M.I (by decide) (by decide) _).trans p1, (M.I (by decide) (by decide) _).trans p2, (M.I (by decide) (by decide) _).trans p3⟩
  let Rw : mj_H → Prop := fun h' => ∀ c, 6600 ≤ c ∧ c < 8800 → hI h' 1439 c = hI h 1439 c
  have keepR : ∀ {q : Nat} {h1 h2 : mj_H}, FrN q h1 h2 → q ≠ 6 → q ≠ 7 → Rw h1 → Rw h2 := fun F q6 q7 a c hc => (F.2 c (by omega)).trans (a c hc)
  let Nn : mj_H → (Nat → Int) → Prop := fun h' R => (∀ j, j < 4 → isN h' j (R j)) ∧ isN h' 4 t ∧ isN h' 5 u
  have keepN : ∀ {q : Nat} {h1 h2 : mj_H} {R : Nat → Int}, FrN q h1 h2 → 6 ≤ q → Nn h1 R → Nn h2 R := fun F hq a => ⟨fun j hj => (a.1 j hj).o F (by omega), a.2.1.o F (by omega), a.2.2.o F (by omega)⟩
  refine mj_Ct_of mj_ok tb_220 rfl rfl (Nat.le_of_ble_eq_true rfl) (fun Run hR => ?_)
  have r426 : ∀ (h' : mj_H) (x7 x8 x9 x10 : Option Value), K h' → Rw h' → Nn h' (wyR (tnF d w f) wl) → isN h' 8 ((1 * t + -f.2.1 * u) / 2) → isN h' 9 (-f.2.2 * u) → isN h' 10 (f.1 * u) → isN h' 11 (1 * t + f.2.1 * u) → Run 426 (l220 f x7 x8 x9 x10) [] h' (0, 0) := by
    intro h' x7 x8 x9 x10 hK hRw hNn m8 m9 m10 m11
    have L' := hK.2.2.2.2.lay L
    refine hR 60 236 _ _ _ _ _ _ rfl ?_
    refine ⟨L'.K 1412 rfl, jcallP (ct_221 G L'.Md (i := 11) (by omega) m11 r2) ?_⟩
    rintro o h3 ⟨rfl, k11, F3⟩
    have N3 := keepN F3 (by omega) hNn
    obtain ⟨b1, b2, b3, b4, b5⟩ := keep F3 hK
    rw [hg] at b4
    exact ⟨rfl, b1, b2, b3, b4, N3.1, N3.2.1, N3.2.2, m8.o F3 (by omega), m9.o F3 (by omega), m10.o F3 (by omega), k11, keepR F3 (by omega) (by omega) hRw, b5⟩
  have r413 : ∀ (h' : mj_H) (x7 x8 x9 x10 : Option Value), K h' → Rw h' → Nn h' (wyR (tnF d w f) wl) → isN h' 8 ((1 * t + -f.2.1 * u) / 2) → isN h' 9 (-f.2.2 * u) → isN h' 10 (f.1 * u) → Run 413 (l220 f x7 x8 x9 x10) [] h' (0, 0) := by
    intro h' x7 x8 x9 x10 hK hRw hNn m8 m9 m10
    have L' := hK.2.2.2.2.lay L
    have c215 := ct_215 G L'.Md (t := 11) (i := 4) (j := 5) (x := 1) (y := f.2.1) (by omega) (by omega) (by omega) (by omega) hfb.2.1 hNn.2.1 hNn.2.2
    rw [← hK.1.2.1] at c215
    refine hR 60 228 _ _ _ _ _ _ rfl ?_
    refine ⟨L'.K 1412 rfl, L'.K 1412 rfl, jcallP c215 ?_⟩
    rintro o h3 ⟨rfl, k11, F3⟩
    exact r426 h3 _ _ _ _ (keep F3 hK) (keepR F3 (by omega) (by omega) hRw) (keepN F3 (by omega) hNn) (m8.o F3 (by omega)) (m9.o F3 (by omega)) (m10.o F3 (by omega)) k11
  have r400 : ∀ (h' : mj_H) (x7 x8 x9 x10 : Option Value), K h' → Rw h' → Nn h' (wyR (tnF d w f) wl) → isN h' 8 ((1 * t + -f.2.1 * u) / 2) → isN h' 9 (-f.2.2 * u) → Run 400 (l220 f x7 x8 x9 x10) [] h' (0, 0) := by
    intro h' x7 x8 x9 x10 hK hRw hNn m8 m9
    have L' := hK.2.2.2.2.lay L
    have c215 := ct_215 G L'.Md (t := 10) (i := 5) (j := 5) (x := f.1) (y := 0) (by omega) (by omega) (by omega) hfb.1 (by omega) hNn.2.2 hNn.2.2
    rw [← hK.1.1, Int.zero_mul, Int.add_zero] at c215
    refine hR 60 220 _ _ _ _ _ _ rfl ?_
    refine ⟨L'.K 1412 rfl, L'.K 1412 rfl, jcallP c215 ?_⟩
    rintro o h3 ⟨rfl, k10, F3⟩
    exact r413 h3 _ _ _ _ (keep F3 hK) (keepR F3 (by omega) (by omega) hRw) (keepN F3 (by omega) hNn) (m8.o F3 (by omega)) (m9.o F3 (by omega)) k10
  have r386 : ∀ (h' : mj_H) (x7 x8 x9 x10 : Option Value), K h' → Rw h' → Nn h' (wyR (tnF d w f) wl) → isN h' 8 ((1 * t + -f.2.1 * u) / 2) → Run 386 (l220 f x7 x8 x9 x10) [] h' (0, 0) := by
    intro h' x7 x8 x9 x10 hK hRw hNn m8
    have L' := hK.2.2.2.2.lay L
    have c215 := ct_215 G L'.Md (t := 9) (i := 5) (j := 5) (x := -f.2.2) (y := 0) (by omega) (by omega) (by omega) (by omega) (by omega) hNn.2.2 hNn.2.2
    rw [← jL_neg, ← hK.1.2.2, Int.zero_mul, Int.add_zero] at c215
    refine hR 60 211 _ _ _ _ _ _ rfl ?_
    refine ⟨L'.K 1412 rfl, L'.K 1412 rfl, jcallP c215 ?_⟩
    rintro o h3 ⟨rfl, k9, F3⟩
    exact r400 h3 _ _ _ _ (keep F3 hK) (keepR F3 (by omega) (by omega) hRw) (keepN F3 (by omega) hNn) (m8.o F3 (by omega)) k9
  have r380 : ∀ (h' : mj_H) (x7 x8 x9 x10 : Option Value), K h' → Rw h' → Nn h' (wyR (tnF d w f) wl) → isN h' 8 (1 * t + -f.2.1 * u) → Run 380 (l220 f x7 x8 x9 x10) [] h' (0, 0) := by
    intro h' x7 x8 x9 x10 hK hRw hNn m8
    have L' := hK.2.2.2.2.lay L
    refine hR 60 208 _ _ _ _ _ _ rfl ?_
    refine ⟨L'.K 1412 rfl, jcallP (ct_221 G L'.Md (i := 8) (by omega) m8 r1) ?_⟩
    rintro o h3 ⟨rfl, k8, F3⟩
    exact r386 h3 _ _ _ _ (keep F3 hK) (keepR F3 (by omega) (by omega) hRw) (keepN F3 (by omega) hNn) k8
  have r366 : ∀ (h' : mj_H) (x7 x8 x9 x10 : Option Value), K h' → Rw h' → Nn h' (wyR (tnF d w f) wl) → Run 366 (l220 f x7 x8 x9 x10) [] h' (0, 0) := by
    intro h' x7 x8 x9 x10 hK hRw hNn
    have L' := hK.2.2.2.2.lay L
    have c215 := ct_215 G L'.Md (t := 8) (i := 4) (j := 5) (x := 1) (y := -f.2.1) (by omega) (by omega) (by omega) (by omega) (by omega) hNn.2.1 hNn.2.2
    rw [← jL_neg, ← hK.1.2.1] at c215
    refine hR 60 199 _ _ _ _ _ _ rfl ?_
    refine ⟨L'.K 1412 rfl, L'.K 1412 rfl, jcallP c215 ?_⟩
    rintro o h3 ⟨rfl, k8, F3⟩
    exact r380 h3 _ _ _ _ (keep F3 hK) (keepR F3 (by omega) (by omega) hRw) (keepN F3 (by omega) hNn) k8
  have twb : ∀ i, i < wl → -4294967296 ≤ tnF d w f i ∧ tnF d w f i ≤ 4294967296 := by
    intro i hi
    by_cases z : i < m
    · exact han i z
    · rcases hwp with q | q
      · have := hwl.2 q.1
        omega
      · obtain ⟨rg1, rg2, -⟩ := hrg q.1
        have := hwl.1 q.1
        have h9 := (rg1.2.1 (i - m) (by omega)).2.2.2
        have e := tnS (i - m)
        rw [show m + (i - m) = i by omega] at e
        rw [e]
        unfold tnF
        omega
  have hwlb : wl ≤ 50000 := by
    rcases hwp with q | q
    · have := hwl.2 q.1
      omega
    · obtain ⟨rg1, rg2, -⟩ := hrg q.1
      have := hwl.1 q.1
      have := rg1.1.2
      omega
  have r263 : ∀ (q kk : Nat) (kI : Int32) (h' : mj_H) (x8 x9 x10 : Option Value), kk + q = wl → K h' → Rw h' → Nn h' (wyR (tnF d w f) kk) → kI = jI kk → Run 263 (l220 f (some (.int kI)) x8 x9 x10) [] h' (0, 0) := by
    intro q
    induction q with
    | zero =>
      rintro kk kI h' x8 x9 x10 hkk hK hRw hNn rfl
      refine hR 60 146 _ _ _ _ _ _ rfl ?_
      refine ⟨(hK.2.2.2.2.lay L).K 1412 rfl, fun c => ?_, fun c => ?_⟩
      · rw [show kk = wl by omega] at hNn
        exact r366 h' _ _ _ _ hK hRw hNn
      · rw [hK.2.1.2.2.2.2] at c
        simp (disch := omega) only [mj_lcm, jI_lt, jI_le, jI_eq, jL_lt, jL_le, jL_eq, jI_lt0, jI_0le, jI_0lt, jI_le0, jI_eq0, jL_eq0, jI_L, jI_add, jI_sub, jI_mul, jI_neg, jL_add, jL_sub, jL_mul, jL_neg, jL_I, jI_div, jI_mod, jL_div, jL_mod] at c
        omega
    | succ q ih =>
      rintro kk kI h' x8 x9 x10 hkk hK hRw hNn rfl
      have L' := hK.2.2.2.2.lay L
      obtain ⟨tt, htt⟩ : ∃ tt, tt = tnF d w f kk := ⟨_, rfl⟩
      have tb := twb kk (by omega)
      rw [← htt] at tb
      have r360 : ∀ (h3 : mj_H) (x8 x9 x10 : Option Value), K h3 → Rw h3 → Nn h3 (stepR tt 1 (stepR tt 0 (wyR (tnF d w f) kk))) → Run 360 (l220 f (some (.int (jI kk))) x8 x9 x10) [] h3 (0, 0) := by
        intro h3 x8 x9 x10 hK3 hR3 hN3
        rw [htt] at hN3
        refine hR 60 197 _ _ _ _ _ _ rfl ?_
        exact ih (kk + 1) _ h3 _ _ _ (by omega) hK3 hR3 hN3 (by rw [jI_add]; rfl)
      have body : ∀ (i : Nat) (R : Nat → Int) (h3 : mj_H), i < 2 → K h3 → Rw h3 → Nn h3 R → (∀ (h4 : mj_H) (iI : Int32), K h4 → Rw h4 → Nn h4 (stepR tt i R) → iI = jI ((i + 1 : Nat) : Int) → Run 309 (l220 f (some (.int (jI kk))) (some (.long (jL tt))) none (some (.int iI))) [] h4 (0, 0)) → Run 309 (l220 f (some (.int (jI kk))) (some (.long (jL tt))) none (some (.int (jI (i : Nat))))) [] h3 (0, 0) := by
        intro i R h3 hi hK3 hR3 hN3 cont
        have L3 := hK3.2.2.2.2.lay L
        have e2 : jI (i : Int) + jI 2 = jI ((i + 2 : Nat) : Int) := by
          rw [jI_add]
          rfl
        have r354 : ∀ (h4 : mj_H), K h4 → Rw h4 → Nn h4 (stepR tt i R) → Run 354 (l220 f (some (.int (jI kk))) (some (.long (jL tt))) none (some (.int (jI (i : Nat))))) [] h4 (0, 0) := by
          intro h4 hK4 hR4 hN4
          refine hR 60 195 _ _ _ _ _ _ rfl ?_
          exact cont h4 _ hK4 hR4 hN4 (by rw [jI_add]; rfl)
        have r346 : ∀ (h4 : mj_H), K h4 → Rw h4 → Nn h4 (upN R (i + 2) (-(R i))) → isN h4 14 (tt * R i + R (i + 2)) → Run 346 (l220 f (some (.int (jI kk))) (some (.long (jL tt))) none (some (.int (jI (i : Nat))))) [] h4 (0, 0) := by
          intro h4 hK4 hR4 hN4 m14
          have L4 := hK4.2.2.2.2.lay L
          refine hR 60 191 _ _ _ _ _ _ rfl ?_
          refine ⟨L4.K 1412 rfl, jcallP (ct_217' G L4.Md (t := i) (f := 14) (by omega) (by omega) (by omega) m14) ?_⟩
          rintro o h5 ⟨rfl, ki, F5⟩
          refine r354 h5 (keep F5 hK4) (keepR F5 (by omega) (by omega) hR4) ⟨fun j hj => ?_, hN4.2.1.o F5 (by omega), hN4.2.2.o F5 (by omega)⟩
          by_cases z : j = i
          · rw [z, show stepR tt i R i = tt * R i + R (i + 2) from if_pos rfl]
            exact ki
          · rw [show stepR tt i R j = upN R (i + 2) (-(R i)) j from if_neg z]
            exact (hN4.1 j hj).o F5 z
        have r330 : ∀ (h4 : mj_H), K h4 → Rw h4 → Nn h4 R → isN h4 14 (tt * R i + R (i + 2)) → Run 330 (l220 f (some (.int (jI kk))) (some (.long (jL tt))) none (some (.int (jI (i : Nat))))) [] h4 (0, 0) := by
          intro h4 hK4 hR4 hN4 m14
          have L4 := hK4.2.2.2.2.lay L
          have c215 := ct_215 G L4.Md (t := i + 2) (i := i) (j := i) (x := -1) (y := 0) (by omega) (by omega) (by omega) (by omega) (by omega) (hN4.1 i (by omega)) (hN4.1 i (by omega))
          rw [← e2] at c215
          refine hR 60 182 _ _ _ _ _ _ rfl ?_
          refine ⟨L4.K 1412 rfl, jcallP c215 ?_⟩
          rintro o h5 ⟨rfl, ki, F5⟩
          refine r346 h5 (keep F5 hK4) (keepR F5 (by omega) (by omega) hR4) ⟨fun j hj => ?_, hN4.2.1.o F5 (by omega), hN4.2.2.o F5 (by omega)⟩ (m14.o F5 (by omega))
          by_cases z : j = i + 2
          · rw [z, show upN R (i + 2) (-(R i)) (i + 2) = -(R i) from if_pos rfl, show -(R i) = -1 * R i + 0 * R i by omega]
            exact ki
          · rw [show upN R (i + 2) (-(R i)) j = R j from if_neg z]
            exact (hN4.1 j hj).o F5 z
        have r315 : Run 315 (l220 f (some (.int (jI kk))) (some (.long (jL tt))) none (some (.int (jI (i : Nat))))) [] h3 (0, 0) := by
          have c215 := ct_215 G L3.Md (t := 14) (i := i) (j := i + 2) (x := tt) (y := 1) (by omega) (by omega) (by omega) (by omega) (by omega) (hN3.1 i (by omega)) (hN3.1 (i + 2) (by omega))
          rw [← e2, Int.one_mul] at c215
          refine hR 60 173 _ _ _ _ _ _ rfl ?_
          refine ⟨L3.K 1412 rfl, jcallP c215 ?_⟩
          rintro o h5 ⟨rfl, k14, F5⟩
          exact r330 h5 (keep F5 hK3) (keepR F5 (by omega) (by omega) hR3) (keepN F5 (by omega) hN3) k14
        refine hR 60 170 _ _ _ _ _ _ rfl ?_
        refine ⟨fun c => ?_, fun c => r315⟩
        simp (disch := omega) only [mj_lcm, jI_lt, jI_le, jI_eq, jL_lt, jL_le, jL_eq, jI_lt0, jI_0le, jI_0lt, jI_le0, jI_eq0, jL_eq0, jI_L, jI_add, jI_sub, jI_mul, jI_neg, jL_add, jL_sub, jL_mul, jL_neg, jL_I, jI_div, jI_mod, jL_div, jL_mod] at c
        omega
      have r306 : ∀ (tL : Int64) (x10 : Option Value), tL = jL tt → Run 306 (l220 f (some (.int (jI kk))) (some (.long tL)) none x10) [] h' (0, 0) := by
        rintro tL x10 rfl
        refine hR 60 168 _ _ _ _ _ _ rfl ?_
        refine body 0 (wyR (tnF d w f) kk) h' (by omega) hK hRw hNn ?_
        rintro h4 iI hK4 hR4 hN4 rfl
        refine body 1 (stepR tt 0 (wyR (tnF d w f) kk)) h4 (by omega) hK4 hR4 hN4 ?_
        rintro h5 iI hK5 hR5 hN5 rfl
        refine hR 60 170 _ _ _ _ _ _ rfl ?_
        exact ⟨fun c => r360 h5 _ _ _ hK5 hR5 hN5, fun c => absurd (show jI 2 ≤ jI ((1 + 1 : Nat) : Int) by decide) c⟩
      have r304 : ∀ (tL : Int64) (x8 x9 x10 : Option Value), tL = jL tt → Run 304 (l220 f (some (.int (jI kk))) x8 x9 x10) [.long tL] h' (0, 0) := by
        intro tL x8 x9 x10 e
        refine hR 60 167 _ _ _ _ _ _ rfl ?_
        exact r306 _ _ e
      have r272 : ∀ (x8 x9 x10 : Option Value), Run 272 (l220 f (some (.int (jI kk))) x8 x9 x10) [] h' (0, 0) := by
        intro x8 x9 x10
        have e24 := hK.2.1.2.2.2.1
        refine hR 60 150 _ _ _ _ _ _ rfl ?_
        refine ⟨L'.K 1412 rfl, fun c => ?_, fun c => ?_⟩
        · rw [e24] at c
          simp (disch := omega) only [mj_lcm, jI_lt, jI_le, jI_eq, jL_lt, jL_le, jL_eq, jI_lt0, jI_0le, jI_0lt, jI_le0, jI_eq0, jL_eq0, jI_L, jI_add, jI_sub, jI_mul, jI_neg, jL_add, jL_sub, jL_mul, jL_neg, jL_I, jI_div, jI_mod, jL_div, jL_mod] at c
          have hp : 0 < d := by
            rcases hwp with q | q
            · have := hwl.2 q.1
              omega
            · exact q.1
          obtain ⟨rg1, rg2, -⟩ := hrg hp
          have hwl1 := hwl.1 hp
          have hr4 := rg1.1.2
          have e26 := ((hK.2.2.2.1 hp).2 (kk - m) (by omega)).2.2
          have tb2 := (rg1.2.1 (kk - m) (by omega)).2.2.2
          have ek : jI (kk : Int) - hI h' 1412 24 = jI ((kk - m : Nat) : Int) := by
            rw [e24, jI_sub]
            congr 1
            omega
          refine ⟨L'.K 1412 rfl, _, L'.R 1412 30 _ rfl, L'.K 1412 rfl, Or.inl (L'.K 1426 rfl), ?_, ?_⟩
          · rw [ek, show hN h' 1426 = 40960 from L'.N 1425 rfl]
            exact jI_in (by omega) (by omega) (by omega)
          · refine r304 _ _ _ _ ?_
            rw [ek, jI_nat (by omega) (by omega), Int.toNat_natCast, e26, htt]
            have e := tnS (kk - m)
            rw [show m + (kk - m) = kk by omega] at e
            rw [e]
            unfold tnF
            rw [jI_L (by omega) (by omega)]
        · rw [e24] at c
          simp (disch := omega) only [mj_lcm, jI_lt, jI_le, jI_eq, jL_lt, jL_le, jL_eq, jI_lt0, jI_0le, jI_0lt, jI_le0, jI_eq0, jL_eq0, jI_L, jI_add, jI_sub, jI_mul, jI_neg, jL_add, jL_sub, jL_mul, jL_neg, jL_I, jI_div, jI_mod, jL_div, jL_mod] at c
          have e23 := hK.2.2.1 kk (by omega)
          refine ⟨L'.K 1412 rfl, _, L'.R 1412 25 _ rfl, L'.K 1423 rfl, ?_, ?_⟩
          · rw [show hN h' 1423 = 200 from L'.N 1422 rfl]
            exact jI_in (by omega) (by omega) (by omega)
          · refine r304 _ _ _ _ ?_
            rw [jI_nat (by omega) (by omega), Int.toNat_natCast, e23, htt]
      refine hR 60 146 _ _ _ _ _ _ rfl ?_
      refine ⟨L'.K 1412 rfl, fun c => ?_, fun c => r272 _ _ _⟩
      rw [hK.2.1.2.2.2.2] at c
      simp (disch := omega) only [mj_lcm, jI_lt, jI_le, jI_eq, jL_lt, jL_le, jL_eq, jI_lt0, jI_0le, jI_0lt, jI_le0, jI_eq0, jL_eq0, jI_L, jI_add, jI_sub, jI_mul, jI_neg, jL_add, jL_sub, jL_mul, jL_neg, jL_I, jI_div, jI_mod, jL_div, jL_mod] at c
      omega
  have r260 : ∀ (h' : mj_H) (x7 x8 x9 x10 : Option Value), K h' → Rw h' → Nn h' (wyR (tnF d w f) 0) → Run 260 (l220 f x7 x8 x9 x10) [] h' (0, 0) := by
    intro h' x7 x8 x9 x10 hK hRw hNn
    refine hR 60 144 _ _ _ _ _ _ rfl ?_
    exact r263 wl 0 _ h' _ _ _ (by omega) hK hRw hNn rfl
  have num : ∀ (h' : mj_H) (x7 x8 x9 x10 : Option Value), K h' → Rw h' → isN h' 4 t → isN h' 5 u → Run 236 (l220 f x7 x8 x9 x10) [] h' (0, 0) := by
    have r254 : ∀ (h' : mj_H) (x7 x8 x9 x10 : Option Value), K h' → Rw h' → isN h' 4 t → isN h' 5 u → isN h' 0 1 → isN h' 1 0 → isN h' 2 0 → Run 254 (l220 f x7 x8 x9 x10) [] h' (0, 0) := by
      intro h' x7 x8 x9 x10 hK hRw m4 m5 m0 m1 m2
      have L' := hK.2.2.2.2.lay L
      refine hR 60 140 _ _ _ _ _ _ rfl ?_
      refine ⟨L'.K 1412 rfl, jcallP (ct_213 G L'.Md (i := 3) (by omega) (v := 1) (by decide) (by decide)) ?_⟩
      rintro o h3 ⟨rfl, k3, F3⟩
      refine r260 h3 _ _ _ _ (keep F3 hK) (keepR F3 (by omega) (by omega) hRw) ⟨fun j hj => ?_, m4.o F3 (by omega), m5.o F3 (by omega)⟩
      rcases (show j = 0 ∨ j = 1 ∨ j = 2 ∨ j = 3 by omega) with e | e | e | e <;> subst e
      · exact m0.o F3 (by omega)
      · exact m1.o F3 (by omega)
      · exact m2.o F3 (by omega)
      · exact k3
    have r248 : ∀ (h' : mj_H) (x7 x8 x9 x10 : Option Value), K h' → Rw h' → isN h' 4 t → isN h' 5 u → isN h' 0 1 → isN h' 1 0 → Run 248 (l220 f x7 x8 x9 x10) [] h' (0, 0) := by
      intro h' x7 x8 x9 x10 hK hRw m4 m5 m0 m1
      have L' := hK.2.2.2.2.lay L
      refine hR 60 136 _ _ _ _ _ _ rfl ?_
      refine ⟨L'.K 1412 rfl, jcallP (ct_213 G L'.Md (i := 2) (by omega) (v := 0) (by decide) (by decide)) ?_⟩
      rintro o h3 ⟨rfl, k3, F3⟩
      exact r254 h3 _ _ _ _ (keep F3 hK) (keepR F3 (by omega) (by omega) hRw) (m4.o F3 (by omega)) (m5.o F3 (by omega)) (m0.o F3 (by omega)) (m1.o F3 (by omega)) k3
    have r242 : ∀ (h' : mj_H) (x7 x8 x9 x10 : Option Value), K h' → Rw h' → isN h' 4 t → isN h' 5 u → isN h' 0 1 → Run 242 (l220 f x7 x8 x9 x10) [] h' (0, 0) := by
      intro h' x7 x8 x9 x10 hK hRw m4 m5 m0
      have L' := hK.2.2.2.2.lay L
      refine hR 60 132 _ _ _ _ _ _ rfl ?_
      refine ⟨L'.K 1412 rfl, jcallP (ct_213 G L'.Md (i := 1) (by omega) (v := 0) (by decide) (by decide)) ?_⟩
      rintro o h3 ⟨rfl, k3, F3⟩
      exact r248 h3 _ _ _ _ (keep F3 hK) (keepR F3 (by omega) (by omega) hRw) (m4.o F3 (by omega)) (m5.o F3 (by omega)) (m0.o F3 (by omega)) k3
    intro h' x7 x8 x9 x10 hK hRw m4 m5
    have L' := hK.2.2.2.2.lay L
    refine hR 60 128 _ _ _ _ _ _ rfl ?_
    refine ⟨L'.K 1412 rfl, jcallP (ct_213 G L'.Md (i := 0) (by omega) (v := 1) (by decide) (by decide)) ?_⟩
    rintro o h3 ⟨rfl, k3, F3⟩
    exact r242 h3 _ _ _ _ (keep F3 hK) (keepR F3 (by omega) (by omega) hRw) (m4.o F3 (by omega)) (m5.o F3 (by omega)) k3
  -- what has been done before the ring
  let Q : mj_H → Prop := fun h' => (hJ h' 1412 20 = jL f.1 ∧ hJ h' 1412 21 = jL f.2.1 ∧ hJ h' 1412 22 = jL f.2.2) ∧ (hI h' 1412 35 = jI 0 ∧ hI h' 1412 34 = jI 0 ∧ hI h' 1412 23 = jI (c : Nat) ∧ hI h' 1412 24 = jI (m : Nat)) ∧ (∀ i, i < m → hJ h' 1423 i = jL (tnF d w f i)) ∧ FrM iHo jHo sH3 h h'
  have keepQ : ∀ {h1 h2 : mj_H}, FrM iH2 jF sH2 h1 h2 → Q h1 → Q h2 := by
    rintro h1 h2 M ⟨⟨a1, a2, a3⟩, ⟨b1, b2, b3, b4⟩, c1, F1⟩
    exact ⟨⟨(M.2.2.2 20 (by omega)).trans a1, (M.2.2.2 21 (by omega)).trans a2, (M.2.2.2 22 (by omega)).trans a3⟩, ⟨(M.2.2.1 35 (by omega)).trans b1, (M.2.2.1 34 (by omega)).trans b2, (M.2.2.1 23 (by omega)).trans b3, (M.2.2.1 24 (by omega)).trans b4⟩, fun i hi => (M.J (by decide) (by omega) _).trans (c1 i hi), F1.trans (M.mono (fun _ z => by omega) (fun _ z => Or.inr z) (fun _ z => by omega))⟩
  have toN : ∀ {h' : mj_H}, FrM iHo jHo sH3 h h' → (∀ c, 6600 ≤ c ∧ c < 8800 → hI h' 1439 c = hI h 1439 c) ∧ isN h' 4 t ∧ isN h' 5 u := fun F => ⟨fun c _ => F.I (by decide) (by omega) c, fun k hk => (F.I (by decide) (by omega) _).trans (n4 k hk), fun k hk => (F.I (by decide) (by omega) _).trans (n5 k hk)⟩
  have hMw : ∀ {h' : mj_H}, FrM iHo jHo sH3 h h' → isMT h' d w n A cls cnt nm := fun F => hT.M F (by omega) (by omega) (fun x hx => by omega)
  have fin : ∀ (h' : mj_H) (x7 x8 x9 x10 : Option Value), Q h' → hI h' 1412 26 = jI (wl : Nat) → (0 < d → hI h' 1412 27 = jI (r : Nat) ∧ ∀ i, i < r → hI h' 1424 i = jI (itF d w i g).1 ∧ hI h' 1425 i = jI (itF d w i g).2.1 ∧ hI h' 1426 i = jI (tnF d w g i)) → Run 236 (l220 f x7 x8 x9 x10) [] h' (0, 0) := by
    rintro h' x7 x8 x9 x10 ⟨a, ⟨b1, b2, b3, b4⟩, c1, F1⟩ e26 hr'
    obtain ⟨N1, N2, N3⟩ := toN F1
    exact num h' _ _ _ _ ⟨a, ⟨b1, b2, b3, b4, e26⟩, c1, hr', F1.mono (fun _ z => z) (fun _ z => z) (fun _ z => Or.inl z)⟩ N1 N2 N3
  have r119 : ∀ (h' : mj_H) (x7 x8 x9 x10 : Option Value), 0 < d → Q h' → hI h' 1412 27 = jI 0 → isMm h' g → Run 119 (l220 f x7 x8 x9 x10) [] h' (0, 0) := by
    intro h' x7 x8 x9 x10 hp hQ e27 hmm
    obtain ⟨⟨⟨r0, r4⟩, rall, rcl, rop⟩, hi0, hpl⟩ := hrg hp
    let V : mj_H → Nat → Nat → Nat → Nat → Nat → Fm → Prop := fun h' rv j1 j2 j3 wy x => Q h' ∧ hI h' 1412 27 = jI (rv : Nat) ∧ (∀ i, i < j1 → hI h' 1424 i = jI (itF d w i g).1) ∧ (∀ i, i < j2 → hI h' 1425 i = jI (itF d w i g).2.1) ∧ (∀ i, i < j3 → hI h' 1426 i = jI (tnF d w g i)) ∧ (i0 < wy → hI h' 1412 26 = jI ((m + i0 : Nat) : Int)) ∧ isMm h' x
    have vin : ∀ {i : Nat}, i < r → vp_in (jI (i : Int)) 40960 := fun hi => jI_in (by omega) (by omega) (by omega)
    have nat : ∀ {i : Nat}, i < r → (jI (i : Int)).toNatClampNeg = i := fun hi => by rw [jI_nat (by omega) (by omega), Int.toNat_natCast]
    have body131 : ∀ (q i : Nat) (h' : mj_H), i + q + 1 = r → V h' i i i i i (itF d w i g) → (q ≠ 0 → ∀ h'', V h'' (i + 1) (i + 1) (i + 1) (i + 1) (i + 1) (itF d w (i + 1) g) → Run 131 (l220 f (some (.long (jL g.1))) none (some (.long (jL g.2.1))) none) [] h'' (0, 0)) → Run 131 (l220 f (some (.long (jL g.1))) none (some (.long (jL g.2.1))) none) [] h' (0, 0) := by
      intro q i h' hi hV cont
      obtain ⟨ok, hplb, hfm, tb1, tb2⟩ := rall i (by omega)
      have r216 : ∀ (h3 : mj_H), V h3 (i + 1) (i + 1) (i + 1) (i + 1) (i + 1) (itF d w (i + 1) g) → Run 216 (l220 f (some (.long (jL g.1))) none (some (.long (jL g.2.1))) none) [] h3 (0, 0) := by
        intro h3 hV3
        have k3 := (hV3.1.2.2.2.lay L).K 1412 rfl
        obtain ⟨z1, z2, z3⟩ := hV3.2.2.2.2.2.2
        have gb : (-2305843009213693952 < g.1 ∧ g.1 < 2305843009213693952) ∧ (-2305843009213693952 < g.2.1 ∧ g.2.1 < 2305843009213693952) := ⟨(rall 0 (by omega)).1.1, (rall 0 (by omega)).1.2.1⟩
        have fb : (-2305843009213693952 < (itF d w (i + 1) g).1 ∧ (itF d w (i + 1) g).1 < 2305843009213693952) ∧ (-2305843009213693952 < (itF d w (i + 1) g).2.1 ∧ (itF d w (i + 1) g).2.1 < 2305843009213693952) := by
          by_cases q0 : q = 0
          · rw [show i + 1 = r by omega, rcl.1, rcl.2]
            exact gb
          · exact ⟨(rall (i + 1) (by omega)).1.1, (rall (i + 1) (by omega)).1.2.1⟩
        refine hR 60 118 _ _ _ _ _ _ rfl ?_
        refine ⟨k3, fun c => ⟨k3, fun c2 => ?_, fun c2 => ?_⟩, fun c => ?_⟩
        · simp only [mj_lcm, z1] at c
          simp only [mj_lcm, z2] at c2
          simp (disch := omega) only [mj_lcm, jI_lt, jI_le, jI_eq, jL_lt, jL_le, jL_eq, jI_lt0, jI_0le, jI_0lt, jI_le0, jI_eq0, jL_eq0, jI_L, jI_add, jI_sub, jI_mul, jI_neg, jL_add, jL_sub, jL_mul, jL_neg, jL_I, jI_div, jI_mod, jL_div, jL_mod] at c c2
          have q0 : q = 0 := by
            apply Decidable.byContradiction
            intro q0
            exact rop (i + 1) (by omega) (by omega) ⟨c, c2⟩
          obtain ⟨v1, v2, v3, v4, v5, v6, -⟩ := hV3
          rw [show i + 1 = r by omega] at v2 v3 v4 v5 v6
          refine fin h3 _ _ _ _ v1 ?_ (fun _ => ⟨v2, fun j hj => ⟨v3 j hj, v4 j hj, v5 j hj⟩⟩)
          rw [hwl.1 hp]
          exact v6 hi0
        · simp only [mj_lcm, z2] at c2
          simp (disch := omega) only [mj_lcm, jI_lt, jI_le, jI_eq, jL_lt, jL_le, jL_eq, jI_lt0, jI_0le, jI_0lt, jI_le0, jI_eq0, jL_eq0, jI_L, jI_add, jI_sub, jI_mul, jI_neg, jL_add, jL_sub, jL_mul, jL_neg, jL_I, jI_div, jI_mod, jL_div, jL_mod] at c2
          refine cont (fun q0 => ?_) h3 hV3
          rw [show i + 1 = r by omega] at c2
          exact c2 rcl.2
        · simp only [mj_lcm, z1] at c
          simp (disch := omega) only [mj_lcm, jI_lt, jI_le, jI_eq, jL_lt, jL_le, jL_eq, jI_lt0, jI_0le, jI_0lt, jI_le0, jI_eq0, jL_eq0, jI_L, jI_add, jI_sub, jI_mul, jI_neg, jL_add, jL_sub, jL_mul, jL_neg, jL_I, jI_div, jI_mod, jL_div, jL_mod] at c
          refine cont (fun q0 => ?_) h3 hV3
          rw [show i + 1 = r by omega] at c
          exact c rcl.1
      have r206 : ∀ (h3 : mj_H), V h3 i (i + 1) (i + 1) (i + 1) (i + 1) (itF d w (i + 1) g) → Run 206 (l220 f (some (.long (jL g.1))) none (some (.long (jL g.2.1))) none) [] h3 (0, 0) := by
        intro h3 hV3
        have k3 := (hV3.1.2.2.2.lay L).K 1412 rfl
        refine hR 60 112 _ _ _ _ _ _ rfl ?_
        refine ⟨k3, k3, ?_⟩
        have F1 : FrM iH2 jF sH2 h3 (sI h3 1412 27 (hI h3 1412 27 + jI 1)) := (FrM.refl _ _ _ h3).fI (k := 27) (by omega) _
        obtain ⟨v1, v2, v3, v4, v5, v6, v7⟩ := hV3
        refine r216 _ ⟨keepQ F1 v1, ?_, fun j hj => v3 j hj, fun j hj => v4 j hj, fun j hj => v5 j hj, fun z => v6 z, v7⟩
        refine (sI_at _ _ _ _).trans ?_
        rw [v2, jI_add]
        rfl
      have r192 : ∀ (h3 : mj_H), V h3 i (i + 1) (i + 1) i (i + 1) (itF d w (i + 1) g) → hJ h3 1412 53 = jL (tnF d w g i) → Run 192 (l220 f (some (.long (jL g.1))) none (some (.long (jL g.2.1))) none) [] h3 (0, 0) := by
        intro h3 hV3 e53
        have L3 := hV3.1.2.2.2.lay L
        obtain ⟨v1, v2, v3, v4, v5, v6, v7⟩ := hV3
        refine hR 60 104 _ _ _ _ _ _ rfl ?_
        refine ⟨L3.K 1412 rfl, _, L3.R 1412 30 _ rfl, L3.K 1412 rfl, L3.K 1412 rfl, L3.K 1426 rfl, ?_, ?_⟩
        · rw [v2, show hN h3 1426 = 40960 from L3.N 1425 rfl]
          exact vin (by omega)
        · rw [v2, e53, jL_I, nat (by omega)]
          have F1 : FrM iH2 jF sH2 h3 (sI h3 1426 i (jI (tnF d w g i))) := (FrM.refl _ _ _ h3).aI (c := 1426) (by omega) (by decide) _ _
          exact r206 _ ⟨keepQ F1 v1, v2, fun j hj => v3 j hj, fun j hj => v4 j hj, aI_ext (X := fun i => jI (tnF d w g i)) v5, fun z => v6 z, v7⟩
      have r188 : ∀ (h3 : mj_H), V h3 i (i + 1) (i + 1) i (i + 1) (itF d w i g) → Run 188 (l220 f (some (.long (jL g.1))) none (some (.long (jL g.2.1))) none) [] h3 (0, 0) := by
        intro h3 hV3
        have L3 := hV3.1.2.2.2.lay L
        obtain ⟨v1, v2, v3, v4, v5, v6, v7⟩ := hV3
        refine hR 60 102 _ _ _ _ _ _ rfl ?_
        refine ⟨L3.K 1412 rfl, jcallP (ct_199 G L3 (hMw v1.2.2.2).2.2 (by omega) hwb v7 ok) ?_⟩
        rintro o h4 ⟨rfl, m4, e53, F4⟩
        rw [← itF_succ] at m4
        have F1 : FrM iH2 jF sH2 h3 h4 := F4.mono (fun _ z => z.elim) (fun _ z => z) (fun _ z => z.elim)
        exact r192 h4 ⟨keepQ F1 v1, (F4.2.2.1 27 (fun z => z)).trans v2, fun j hj => (F4.I (by decide) (fun z => z) _).trans (v3 j hj), fun j hj => (F4.I (by decide) (fun z => z) _).trans (v4 j hj), fun j hj => (F4.I (by decide) (fun z => z) _).trans (v5 j hj), fun z => (F4.2.2.1 26 (fun z => z)).trans (v6 z), m4⟩ e53
      have r175 : ∀ (h3 : mj_H), V h3 i (i + 1) (i + 1) i i (itF d w i g) → i = i0 → Run 175 (l220 f (some (.long (jL g.1))) none (some (.long (jL g.2.1))) none) [] h3 (0, 0) := by
        intro h3 hV3 ei
        have k3 := (hV3.1.2.2.2.lay L).K 1412 rfl
        obtain ⟨v1, v2, v3, v4, v5, v6, v7⟩ := hV3
        refine hR 60 95 _ _ _ _ _ _ rfl ?_
        refine ⟨k3, k3, k3, ?_⟩
        have F1 : FrM iH2 jF sH2 h3 (sI h3 1412 26 (hI h3 1412 24 + hI h3 1412 27)) := (FrM.refl _ _ _ h3).fI (k := 26) (by omega) _
        refine r188 _ ⟨keepQ F1 v1, v2, fun j hj => v3 j hj, fun j hj => v4 j hj, fun j hj => v5 j hj, fun z => ?_, v7⟩
        refine (sI_at _ _ _ _).trans ?_
        rw [v2, v1.2.1.2.2.2, jI_add, ei]
        rfl
      have r159 : ∀ (h3 : mj_H), V h3 i (i + 1) (i + 1) i i (itF d w i g) → Run 159 (l220 f (some (.long (jL g.1))) none (some (.long (jL g.2.1))) none) [] h3 (0, 0) := by
        intro h3 hV3
        have L3 := hV3.1.2.2.2.lay L
        have M3 := hMw hV3.1.2.2.2
        have e23 := hV3.1.2.1.2.2.1
        have natc : (jI (c : Int)).toNatClampNeg = c := by rw [jI_nat (by omega) (by omega), Int.toNat_natCast]
        have c201 := ct_201 G L3 M3.1 hS hV3.2.2.2.2.2.2 (k := pl i) hplb (by rw [hfm]; exact ⟨rfl, rfl⟩)
        have hnmb := (hnm c hc).1
        refine hR 60 87 _ _ _ _ _ _ rfl ?_
        refine ⟨L3.K 1412 rfl, jcall c201 ?_⟩
        refine ⟨L3.K 1412 rfl, _, L3.R 1412 8 _ rfl, L3.K 1412 rfl, Or.inl (L3.K 1416 rfl), ?_, ?_⟩
        · rw [e23, show hN h3 1416 = 4096 from L3.N 1415 rfl]
          exact jI_in (by omega) (by omega) (by omega)
        · refine ⟨fun c2 => ?_, fun c2 => ?_⟩
          · rw [e23, natc, M3.2.1.2.2 c hc] at c2
            simp (disch := omega) only [mj_lcm, jI_lt, jI_le, jI_eq, jL_lt, jL_le, jL_eq, jI_lt0, jI_0le, jI_0lt, jI_le0, jI_eq0, jL_eq0, jI_L, jI_add, jI_sub, jI_mul, jI_neg, jL_add, jL_sub, jL_mul, jL_neg, jL_I, jI_div, jI_mod, jL_div, jL_mod] at c2
            exact r175 h3 hV3 ((hpl i (by omega)).1 (by omega))
          · rw [e23, natc, M3.2.1.2.2 c hc] at c2
            simp (disch := omega) only [mj_lcm, jI_lt, jI_le, jI_eq, jL_lt, jL_le, jL_eq, jI_lt0, jI_0le, jI_0lt, jI_le0, jI_eq0, jL_eq0, jI_L, jI_add, jI_sub, jI_mul, jI_neg, jL_add, jL_sub, jL_mul, jL_neg, jL_I, jI_div, jI_mod, jL_div, jL_mod] at c2
            obtain ⟨v1, v2, v3, v4, v5, v6, v7⟩ := hV3
            refine r188 h3 ⟨v1, v2, v3, v4, v5, fun z => v6 ?_, v7⟩
            have : i ≠ i0 := fun e => c2 (by have := (hpl i (by omega)).2 e; omega)
            omega
      have r145 : ∀ (h3 : mj_H), V h3 i (i + 1) i i i (itF d w i g) → Run 145 (l220 f (some (.long (jL g.1))) none (some (.long (jL g.2.1))) none) [] h3 (0, 0) := by
        intro h3 hV3
        have L3 := hV3.1.2.2.2.lay L
        obtain ⟨v1, v2, v3, v4, v5, v6, v7⟩ := hV3
        refine hR 60 79 _ _ _ _ _ _ rfl ?_
        refine ⟨L3.K 1412 rfl, _, L3.R 1412 29 _ rfl, L3.K 1412 rfl, L3.K 1412 rfl, L3.K 1425 rfl, ?_, ?_⟩
        · rw [v2, show hN h3 1425 = 40960 from L3.N 1424 rfl]
          exact vin (by omega)
        · rw [v2, v7.2.1, jL_I, nat (by omega)]
          have F1 : FrM iH2 jF sH2 h3 (sI h3 1425 i (jI (itF d w i g).2.1)) := (FrM.refl _ _ _ h3).aI (c := 1425) (by omega) (by decide) _ _
          exact r159 _ ⟨keepQ F1 v1, v2, fun j hj => v3 j hj, aI_ext (X := fun i => jI (itF d w i g).2.1) v4, fun j hj => v5 j hj, fun z => v6 z, v7⟩
      have L3 := hV.1.2.2.2.lay L
      obtain ⟨v1, v2, v3, v4, v5, v6, v7⟩ := hV
      refine hR 60 71 _ _ _ _ _ _ rfl ?_
      refine ⟨L3.K 1412 rfl, _, L3.R 1412 28 _ rfl, L3.K 1412 rfl, L3.K 1412 rfl, L3.K 1424 rfl, ?_, ?_⟩
      · rw [v2, show hN h' 1424 = 40960 from L3.N 1423 rfl]
        exact vin (by omega)
      · rw [v2, v7.1, jL_I, nat (by omega)]
        have F1 : FrM iH2 jF sH2 h' (sI h' 1424 i (jI (itF d w i g).1)) := (FrM.refl _ _ _ h').aI (c := 1424) (by omega) (by decide) _ _
        exact r145 _ ⟨keepQ F1 v1, v2, aI_ext (X := fun i => jI (itF d w i g).1) v3, fun j hj => v4 j hj, fun j hj => v5 j hj, fun z => v6 z, v7⟩
    have r131 : ∀ (q i : Nat) (h' : mj_H), i + q + 1 = r → V h' i i i i i (itF d w i g) → Run 131 (l220 f (some (.long (jL g.1))) none (some (.long (jL g.2.1))) none) [] h' (0, 0) := by
      intro q
      induction q with
      | zero =>
        intro i h' hi hV
        exact body131 0 i h' hi hV (fun e => absurd rfl e)
      | succ q ih =>
        intro i h' hi hV
        exact body131 (q + 1) i h' (by omega) hV (fun e h'' hV'' => ih (i + 1) h'' (by omega) hV'')
    have r125 : ∀ (x9 x10 : Option Value), Run 125 (l220 f (some (.long (jL g.1))) none x9 x10) [] h' (0, 0) := by
      intro x9 x10
      refine hR 60 68 _ _ _ _ _ _ rfl ?_
      refine ⟨(hQ.2.2.2.lay L).K 1412 rfl, ?_⟩
      rw [hmm.2.1]
      exact r131 (r - 1) 0 h' (by omega) ⟨hQ, e27, fun i hi => by omega, fun i hi => by omega, fun i hi => by omega, fun z => by omega, hmm⟩
    refine hR 60 65 _ _ _ _ _ _ rfl ?_
    refine ⟨(hQ.2.2.2.lay L).K 1412 rfl, ?_⟩
    rw [hmm.1]
    exact r125 _ _
  have r110 : ∀ (h' : mj_H) (x7 x8 x9 x10 : Option Value), Q h' → hI h' 1412 26 = jI (m : Nat) → hI h' 1412 27 = jI 0 → isMm h' g → Run 110 (l220 f x7 x8 x9 x10) [] h' (0, 0) := by
    intro h' x7 x8 x9 x10 hQ e26 e27 hmm
    refine hR 60 60 _ _ _ _ _ _ rfl ?_
    refine ⟨(hQ.2.2.2.lay L).K 1412 rfl, fun c => ?_, fun c => ?_⟩
    · simp only [mj_lcm, (hMw hQ.2.2.2).2.2.1] at c
      simp (disch := omega) only [mj_lcm, jI_lt, jI_le, jI_eq, jL_lt, jL_le, jL_eq, jI_lt0, jI_0le, jI_0lt, jI_le0, jI_eq0, jL_eq0, jI_L, jI_add, jI_sub, jI_mul, jI_neg, jL_add, jL_sub, jL_mul, jL_neg, jL_I, jI_div, jI_mod, jL_div, jL_mod] at c
      refine fin h' _ _ _ _ hQ ?_ (fun z => by omega)
      rw [hwl.2 (by omega)]
      exact e26
    · simp only [mj_lcm, (hMw hQ.2.2.2).2.2.1] at c
      simp (disch := omega) only [mj_lcm, jI_lt, jI_le, jI_eq, jL_lt, jL_le, jL_eq, jI_lt0, jI_0le, jI_0lt, jI_le0, jI_eq0, jL_eq0, jI_L, jI_add, jI_sub, jI_mul, jI_neg, jL_add, jL_sub, jL_mul, jL_neg, jL_I, jI_div, jI_mod, jL_div, jL_mod] at c
      exact r119 h' _ _ _ _ (by omega) hQ e27 hmm
  have r97 : ∀ (h' : mj_H) (x7 x8 x9 x10 : Option Value), Q h' → isMm h' g → Run 97 (l220 f x7 x8 x9 x10) [] h' (0, 0) := by
    intro h' x7 x8 x9 x10 hQ hmm
    have k := (hQ.2.2.2.lay L).K 1412 rfl
    refine hR 60 53 _ _ _ _ _ _ rfl ?_
    have F1 : FrM iH2 jF sH2 h' (sI h' 1412 27 (jI 0)) := (FrM.refl _ _ _ h').fI (k := 27) (by omega) _
    refine ⟨k, k, k, ?_⟩
    refine r110 _ _ _ _ _ (keepQ (F1.fI (k := 26) (by omega) _) hQ) ?_ ?_ ?_
    · refine (sI_at _ _ _ _).trans ?_
      exact hQ.2.1.2.2.2
    · rfl
    · exact hmm
  -- before the class is known
  let Q1 : mj_H → Nat → Prop := fun h' i => (hJ h' 1412 20 = jL f.1 ∧ hJ h' 1412 21 = jL f.2.1 ∧ hJ h' 1412 22 = jL f.2.2) ∧ (hI h' 1412 35 = jI 0 ∧ hI h' 1412 34 = jI 0 ∧ hI h' 1412 24 = jI (i : Nat)) ∧ (∀ j, j < i → hJ h' 1423 j = jL (tnF d w f j)) ∧ FrM iHo jHo sH3 h h'
  have r84 : ∀ (h' : mj_H) (x7 x8 x9 x10 : Option Value), Q1 h' m → isMm h' g → Run 84 (l220 f x7 x8 x9 x10) [] h' (0, 0) := by
    intro h' x7 x8 x9 x10 hQ hmm
    have L' := hQ.2.2.2.lay L
    have M' := hMw hQ.2.2.2
    have natk : (jI (k : Int)).toNatClampNeg = k := by rw [jI_nat (by omega) (by omega), Int.toNat_natCast]
    refine hR 60 46 _ _ _ _ _ _ rfl ?_
    refine ⟨L'.K 1412 rfl, _, L'.R 1412 6 _ rfl, L'.K 1412 rfl, jcall (ct_201 G L' M'.1 hS hmm hk (by rw [hkf]; exact ⟨rfl, rfl⟩)) ?_⟩
    refine ⟨Or.inl (L'.K 1415 rfl), ?_, L'.K 1412 rfl, ?_⟩
    · rw [show hN h' 1415 = 40960 from L'.N 1414 rfl]
      exact jI_in (by omega) (by omega) (by omega)
    · obtain ⟨a, ⟨b1, b2, b3⟩, c1, F1⟩ := hQ
      refine r97 _ _ _ _ _ ⟨a, ⟨b1, b2, ?_, b3⟩, c1, F1.fI (k := 23) (by omega) _⟩ hmm
      refine (sI_at _ _ _ _).trans ?_
      rw [natk, M'.2.1.2.1 k hk, hcls]
  have r47 : ∀ (q i : Nat) (h' : mj_H) (x7 x8 x9 x10 : Option Value), i + q = m → trm d w q (itF d w i f) → (d < 0 → posT d w q (itF d w i f)) → Q1 h' i → isMm h' (itF d w i f) → Run 47 (l220 f x7 x8 x9 x10) [] h' (0, 0) := by
    intro q
    induction q with
    | zero =>
      intro i h' x7 x8 x9 x10 hi tf pf hQ hmm
      have L' := hQ.2.2.2.lay L
      have ei : i = m := by omega
      subst ei
      refine hR 60 27 _ _ _ _ _ _ rfl ?_
      refine ⟨L'.K 1412 rfl, jcall (ct_195 G L' (hMw hQ.2.2.2).2.2 (by omega) hd0 hwb hmm tf.1 pf) ?_⟩
      rw [tf.2]
      exact ⟨fun c => absurd c (by decide), fun c => r84 h' _ _ _ _ hQ (hg ▸ hmm)⟩
    | succ q ih =>
      intro i h' x7 x8 x9 x10 hi tf pf hQ hmm
      have L' := hQ.2.2.2.lay L
      have r71 : ∀ (h3 : mj_H) (x7 x8 x9 x10 : Option Value), (hJ h3 1412 20 = jL f.1 ∧ hJ h3 1412 21 = jL f.2.1 ∧ hJ h3 1412 22 = jL f.2.2) → (hI h3 1412 35 = jI 0 ∧ hI h3 1412 34 = jI 0 ∧ hI h3 1412 24 = jI (i : Nat)) → (∀ j, j < i + 1 → hJ h3 1423 j = jL (tnF d w f j)) → FrM iHo jHo sH3 h h3 → isMm h3 (itF d w (i + 1) f) → Run 71 (l220 f x7 x8 x9 x10) [] h3 (0, 0) := by
        intro h3 x7 x8 x9 x10 a b c1 F3 m3
        have k3 := (F3.lay L).K 1412 rfl
        refine hR 60 39 _ _ _ _ _ _ rfl ?_
        refine ⟨k3, k3, ?_⟩
        refine ih (i + 1) _ _ _ _ _ (by omega) (by rw [itF_succ]; exact tf.2) (fun z => by rw [itF_succ]; exact (pf z).2) ⟨a, ⟨b.1, b.2.1, ?_⟩, c1, F3.fI (k := 24) (by omega) _⟩ m3
        refine (sI_at _ _ _ _).trans ?_
        rw [b.2.2, jI_add]
        rfl
      have r58 : ∀ (h3 : mj_H) (x7 x8 x9 x10 : Option Value), Q1 h3 i → isMm h3 (itF d w (i + 1) f) → hJ h3 1412 53 = jL (tnF d w f i) → Run 58 (l220 f x7 x8 x9 x10) [] h3 (0, 0) := by
        rintro h3 x7 x8 x9 x10 ⟨a, b, c1, F3⟩ m3 e53
        have L3 := F3.lay L
        refine hR 60 32 _ _ _ _ _ _ rfl ?_
        refine ⟨L3.K 1412 rfl, _, L3.R 1412 25 _ rfl, L3.K 1412 rfl, L3.K 1412 rfl, L3.K 1423 rfl, ?_, ?_⟩
        · rw [b.2.2, show hN h3 1423 = 200 from L3.N 1422 rfl]
          exact jI_in (by omega) (by omega) (by omega)
        · rw [b.2.2, e53, jI_nat (by omega) (by omega), Int.toNat_natCast]
          exact r71 _ _ _ _ _ a b (aJ_ext (X := fun i => jL (tnF d w f i)) c1) (F3.aJ (c := 1423) (by omega) (by decide) _ _) m3
      have r54 : ∀ (x7 x8 x9 x10 : Option Value), Run 54 (l220 f x7 x8 x9 x10) [] h' (0, 0) := by
        intro x7 x8 x9 x10
        refine hR 60 30 _ _ _ _ _ _ rfl ?_
        refine ⟨L'.K 1412 rfl, jcallP (ct_199 G L' (hMw hQ.2.2.2).2.2 (by omega) hwb hmm tf.1.1) ?_⟩
        rintro o h4 ⟨rfl, m4, e53, F4⟩
        rw [← itF_succ] at m4
        obtain ⟨⟨a1, a2, a3⟩, ⟨b1, b2, b3⟩, c1, F1⟩ := hQ
        exact r58 h4 _ _ _ _ ⟨⟨(F4.2.2.2 20 (by omega)).trans a1, (F4.2.2.2 21 (by omega)).trans a2, (F4.2.2.2 22 (by omega)).trans a3⟩, ⟨(F4.2.2.1 35 (fun z => z)).trans b1, (F4.2.2.1 34 (fun z => z)).trans b2, (F4.2.2.1 24 (fun z => z)).trans b3⟩, fun j hj => (F4.J (by decide) (fun z => z) _).trans (c1 j hj), F1.trans (F4.mono (fun _ z => z.elim) (fun _ z => Or.inr z) (fun _ z => z.elim))⟩ m4 e53
      refine hR 60 27 _ _ _ _ _ _ rfl ?_
      refine ⟨L'.K 1412 rfl, jcall (ct_195 G L' (hMw hQ.2.2.2).2.2 (by omega) hd0 hwb hmm tf.1.1 (fun z => (pf z).1)) ?_⟩
      rw [tf.1.2]
      exact ⟨fun c => r54 _ _ _ _, fun c => absurd rfl c⟩
  have r42 : ∀ (h' : mj_H) (x7 x8 x9 x10 : Option Value), (hJ h' 1412 20 = jL f.1 ∧ hJ h' 1412 21 = jL f.2.1 ∧ hJ h' 1412 22 = jL f.2.2) → (hI h' 1412 35 = jI 0 ∧ hI h' 1412 34 = jI 0) → FrM iHo jHo sH3 h h' → isMm h' f → Run 42 (l220 f x7 x8 x9 x10) [] h' (0, 0) := by
    intro h' x7 x8 x9 x10 a b F hmm
    refine hR 60 24 _ _ _ _ _ _ rfl ?_
    refine ⟨(F.lay L).K 1412 rfl, ?_⟩
    exact r47 m 0 _ _ _ _ _ (by omega) ht hpo ⟨a, ⟨b.1, b.2, rfl⟩, fun j hj => by omega, F.fI (k := 24) (by omega) _⟩ hmm
  have r26 : ∀ (h' : mj_H) (x7 x8 x9 x10 : Option Value), (hJ h' 1412 20 = jL f.1 ∧ hJ h' 1412 21 = jL f.2.1 ∧ hJ h' 1412 22 = jL f.2.2) → (hI h' 1412 35 = jI 0 ∧ hI h' 1412 34 = jI 0) → FrM iHo jHo sH3 h h' → Run 26 (l220 f x7 x8 x9 x10) [] h' (0, 0) := by
    intro h' x7 x8 x9 x10 a b F
    have k' := (F.lay L).K 1412 rfl
    refine hR 60 15 _ _ _ _ _ _ rfl ?_
    refine ⟨k', k', k', ?_⟩
    exact r42 _ _ _ _ _ a b (((F.fJ (k := 50) (by omega) _).fJ (k := 51) (by omega) _).fJ (k := 52) (by omega) _) ⟨rfl, rfl, rfl⟩
  have k0 := L.K 1412 rfl
  have r16 : ∀ (h' : mj_H) (x7 x8 x9 x10 : Option Value), (hJ h' 1412 20 = jL f.1 ∧ hJ h' 1412 21 = jL f.2.1 ∧ hJ h' 1412 22 = jL f.2.2) → FrM iHo jHo sH3 h h' → Run 16 (l220 f x7 x8 x9 x10) [] h' (0, 0) := by
    intro h' x7 x8 x9 x10 a F
    have k' := (F.lay L).K 1412 rfl
    refine hR 60 9 _ _ _ _ _ _ rfl ?_
    refine ⟨k', k', ?_⟩
    exact r26 _ _ _ _ _ a ⟨rfl, rfl⟩ ((F.fI (k := 35) (by omega) _).fI (k := 34) (by omega) _)
  refine hR 60 0 _ _ _ _ _ _ rfl ?_
  refine ⟨k0, k0, k0, ?_⟩
  exact r16 _ _ _ _ _ ⟨rfl, rfl, rfl⟩ ((((FrM.refl iHo jHo sH3 h).fJ (k := 20) (by omega) _).fJ (k := 21) (by omega) _).fJ (k := 22) (by omega) _)
end
