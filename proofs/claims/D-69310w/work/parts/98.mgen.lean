/-! the model: generators -/
section
variable {d w : Int} {n : Nat} {A : Nat → pI} {nxt : Nat → Nat} {cls : Nat → Int} {cnt : Nat} {nm : Nat → Nat}
def gnOT (T : isTF d w n A nxt cls cnt nm) (o : Fin cnt → Nat) : Nat → gS cnt → Prop
  | 0, st => st.1.length = cnt
  | f + 1, st => st.1.length = cnt ∨ (st.1.length < cnt ∧ (∀ x, (¬ x ∈ st.1 ∧ aptT T o st.1 x) ↔ aptP T o st.1 x) ∧ ∃ g, bstS T o st.1 cnt = some g ∧ 1 < o g ∧ st.2.2.length < 8 ∧ st.1.length * o g ≤ 4096 ∧ gnOT T o f (jnS T o st g))
abbrev iGn (k : Nat) : Prop := k = 12 ∨ k = 15
abbrev sGn (c : Nat) : Prop := 1418 ≤ c ∧ c ≤ 1421
theorem gnS_full (T : isTF d w n A nxt cls cnt nm) (o : Fin cnt → Nat) {st : gS cnt} (h : st.1.length = cnt) : ∀ f, gnS T o f st = st
  | 0 => rfl
  | f + 1 => by
    show (if st.1.length < cnt then _ else st) = st
    rw [if_neg (by omega)]
theorem outS_one (T : isTF d w n A nxt cls cnt nm) (B : List (Fin cnt)) (g : Fin cnt) (st : gS cnt) (e : Nat) : outS T B g (e + 1) st = innS T B (e + 1) (pw (mulC T) (oneC T) g (e + 1)) B.length (outS T B g e st) := rfl
theorem innS_one (T : isTF d w n A nxt cls cnt nm) {B : List (Fin cnt)} (e : Nat) (p : Fin cnt) (st : gS cnt) {i : Nat} {m : Fin cnt} (hm : B[i]? = some m) : innS T B e p (i + 1) st = putS T e p (innS T B e p i st) m := by
  show (match B[i]? with | some m => putS T e p (innS T B e p i st) m | none => innS T B e p i st) = _
  rw [hm]
abbrev l210 (a b : Int32) (x3 x4 x5 x6 x7 : Option Value) : mj_Ls := [some (.ref 1412), some (.int a), some (.int b), x3, x4, x5, x6, x7]
/-- FormHouseModel.generate()V; cuts at [7, 15, 34, 40, 42, 48, 69, 84, 99, 107, 126, 143, 145, 151, 161, 166, 171, 182, 185, 191, 205, 208, 215, 260, 266, 295, 301, 308, 314] -/
def cl_210_7 : List mj_E := (301, true, .aload_n 0, 1, 0, 0, 0, 0, 0) ::
  (302, false, .iload_n 3, 1, 0, 0, 0, 0, 0) ::
  (303, false, .iload_n 1, 1, 0, 0, 0, 0, 0) ::
  (304, false, .invokevirtual 204, 3, 204, 2, 17, 0, 0) ::
  (307, false, .istore_n 3, 1, 0, 0, 0, 0, 0) ::
  (308, true, .iinc 4 1, 3, 0, 0, 0, jI 1, 0) ::
  (311, false, .goto (-140), 3, 98, 0, 0, 0, 0) ::
  (314, true, .aload_n 0, 1, 0, 0, 0, 0, 0) ::
  (315, false, .dup, 1, 0, 0, 0, 0, 0) ::
  (316, false, .getfield 208, 3, 17, 15, 0, 0, 0) ::
  (319, false, .iconst 1, 1, 0, 0, 0, jI 1, 0) ::
  (320, false, .iadd, 1, 0, 0, 0, 0, 0) ::
  (321, false, .putfield 208, 3, 17, 15, 0, 0, 0) ::
  (324, false, .goto (-240), 3, 48, 0, 0, 0, 0) ::
  (327, false, .return_, 1, 0, 0, 0, 0, 0) ::
  []
def cl_210_6 : List mj_E := (257, false, .iadd, 1, 0, 0, 0, 0, 0) ::
  (258, false, .iaload, 1, 0, 0, 0, 0, 0) ::
  (259, false, .iastore, 1, 0, 0, 0, 0, 0) ::
  (260, true, .iinc 7 1, 3, 0, 0, 0, jI 1, 0) ::
  (263, false, .goto (-55), 3, 119, 0, 0, 0, 0) ::
  (266, true, .aload_n 0, 1, 0, 0, 0, 0, 0) ::
  (267, false, .getfield 41, 3, 17, 11, 2, 0, 0) ::
  (270, false, .iload 6, 2, 0, 0, 0, 0, 0) ::
  (272, false, .iconst 1, 1, 0, 0, 0, jI 1, 0) ::
  (273, false, .bastore, 1, 0, 0, 0, 0, 0) ::
  (274, false, .aload_n 0, 1, 0, 0, 0, 0, 0) ::
  (275, false, .getfield 45, 3, 17, 13, 2, 0, 0) ::
  (278, false, .aload_n 0, 1, 0, 0, 0, 0, 0) ::
  (279, false, .getfield 198, 3, 17, 12, 0, 0, 0) ::
  (282, false, .iload 6, 2, 0, 0, 0, 0, 0) ::
  (284, false, .iastore, 1, 0, 0, 0, 0, 0) ::
  (285, false, .aload_n 0, 1, 0, 0, 0, 0, 0) ::
  (286, false, .dup, 1, 0, 0, 0, 0, 0) ::
  (287, false, .getfield 198, 3, 17, 12, 0, 0, 0) ::
  (290, false, .iconst 1, 1, 0, 0, 0, jI 1, 0) ::
  (291, false, .iadd, 1, 0, 0, 0, 0, 0) ::
  (292, false, .putfield 198, 3, 17, 12, 0, 0, 0) ::
  (295, true, .iinc 5 1, 3, 0, 0, 0, jI 1, 0) ::
  (298, false, .goto (-113), 3, 106, 0, 0, 0, 0) ::
  cl_210_7
def cl_210_5 : List mj_E := (210, false, .bipush 8, 2, 0, 0, 0, jI 8, 0) ::
  (212, false, .if_icmp .ge 54, 3, 149, 0, 0, 0, 0) ::
  (215, true, .aload_n 0, 1, 0, 0, 0, 0, 0) ::
  (216, false, .getfield 38, 3, 17, 10, 2, 0, 0) ::
  (219, false, .bipush 8, 2, 0, 0, 0, jI 8, 0) ::
  (221, false, .iload 6, 2, 0, 0, 0, 0, 0) ::
  (223, false, .imul, 1, 0, 0, 0, 0, 0) ::
  (224, false, .iload 7, 2, 0, 0, 0, 0, 0) ::
  (226, false, .iadd, 1, 0, 0, 0, 0, 0) ::
  (227, false, .iload 7, 2, 0, 0, 0, 0, 0) ::
  (229, false, .aload_n 0, 1, 0, 0, 0, 0, 0) ::
  (230, false, .getfield 208, 3, 17, 15, 0, 0, 0) ::
  (233, false, .if_icmp .ne 8, 3, 135, 0, 0, 0, 0) ::
  (236, false, .iload 4, 2, 0, 0, 0, 0, 0) ::
  (238, false, .goto 21, 3, 146, 0, 0, 0, 0) ::
  (241, false, .aload_n 0, 1, 0, 0, 0, 0, 0) ::
  (242, false, .getfield 38, 3, 17, 10, 2, 0, 0) ::
  (245, false, .bipush 8, 2, 0, 0, 0, jI 8, 0) ::
  (247, false, .aload_n 0, 1, 0, 0, 0, 0, 0) ::
  (248, false, .getfield 45, 3, 17, 13, 2, 0, 0) ::
  (251, false, .iload 5, 2, 0, 0, 0, 0, 0) ::
  (253, false, .iaload, 1, 0, 0, 0, 0, 0) ::
  (254, false, .imul, 1, 0, 0, 0, 0, 0) ::
  (255, false, .iload 7, 2, 0, 0, 0, 0, 0) ::
  cl_210_6
def cl_210_4 : List mj_E := (168, false, .iconst 1, 1, 0, 0, 0, jI 1, 0) ::
  (169, false, .istore 4, 2, 0, 0, 0, 0, 0) ::
  (171, true, .iload 4, 2, 0, 0, 0, 0, 0) ::
  (173, false, .aload_n 0, 1, 0, 0, 0, 0, 0) ::
  (174, false, .getfield 34, 3, 17, 9, 2, 0, 0) ::
  (177, false, .iload_n 1, 1, 0, 0, 0, 0, 0) ::
  (178, false, .iaload, 1, 0, 0, 0, 0, 0) ::
  (179, false, .if_icmp .ge 135, 3, 175, 0, 0, 0, 0) ::
  (182, true, .iconst 0, 1, 0, 0, 0, jI 0, 0) ::
  (183, false, .istore 5, 2, 0, 0, 0, 0, 0) ::
  (185, true, .iload 5, 2, 0, 0, 0, 0, 0) ::
  (187, false, .iload_n 2, 1, 0, 0, 0, 0, 0) ::
  (188, false, .if_icmp .ge 113, 3, 168, 0, 0, 0, 0) ::
  (191, true, .aload_n 0, 1, 0, 0, 0, 0, 0) ::
  (192, false, .aload_n 0, 1, 0, 0, 0, 0, 0) ::
  (193, false, .getfield 45, 3, 17, 13, 2, 0, 0) ::
  (196, false, .iload 5, 2, 0, 0, 0, 0, 0) ::
  (198, false, .iaload, 1, 0, 0, 0, 0, 0) ::
  (199, false, .iload_n 3, 1, 0, 0, 0, 0, 0) ::
  (200, false, .invokevirtual 204, 3, 204, 2, 17, 0, 0) ::
  (203, false, .istore 6, 2, 0, 0, 0, 0, 0) ::
  (205, true, .iconst 0, 1, 0, 0, 0, jI 0, 0) ::
  (206, false, .istore 7, 2, 0, 0, 0, 0, 0) ::
  (208, true, .iload 7, 2, 0, 0, 0, 0, 0) ::
  cl_210_5
def cl_210_3 : List mj_E := (126, true, .aload_n 0, 1, 0, 0, 0, 0, 0) ::
  (127, false, .getfield 41, 3, 17, 11, 2, 0, 0) ::
  (130, false, .iload_n 2, 1, 0, 0, 0, 0, 0) ::
  (131, false, .baload, 1, 0, 0, 0, 0, 0) ::
  (132, false, .ifCond .ne 13, 3, 83, 0, 0, 0, 0) ::
  (135, false, .aload_n 0, 1, 0, 0, 0, 0, 0) ::
  (136, false, .iload_n 2, 1, 0, 0, 0, 0, 0) ::
  (137, false, .invokevirtual 211, 3, 211, 1, 17, 0, 0) ::
  (140, false, .ifCond .eq 5, 3, 83, 0, 0, 0, 0) ::
  (143, true, .iload_n 2, 1, 0, 0, 0, 0, 0) ::
  (144, false, .istore_n 1, 1, 0, 0, 0, 0, 0) ::
  (145, true, .iinc 2 1, 3, 0, 0, 0, jI 1, 0) ::
  (148, false, .goto (-49), 3, 57, 0, 0, 0, 0) ::
  (151, true, .aload_n 0, 1, 0, 0, 0, 0, 0) ::
  (152, false, .getfield 48, 3, 17, 16, 2, 0, 0) ::
  (155, false, .aload_n 0, 1, 0, 0, 0, 0, 0) ::
  (156, false, .getfield 208, 3, 17, 15, 0, 0, 0) ::
  (159, false, .iload_n 1, 1, 0, 0, 0, 0, 0) ::
  (160, false, .iastore, 1, 0, 0, 0, 0, 0) ::
  (161, true, .aload_n 0, 1, 0, 0, 0, 0, 0) ::
  (162, false, .getfield 198, 3, 17, 12, 0, 0, 0) ::
  (165, false, .istore_n 2, 1, 0, 0, 0, 0, 0) ::
  (166, true, .iload_n 1, 1, 0, 0, 0, 0, 0) ::
  (167, false, .istore_n 3, 1, 0, 0, 0, 0, 0) ::
  cl_210_4
def cl_210_2 : List mj_E := (84, true, .aload_n 0, 1, 0, 0, 0, 0, 0) ::
  (85, false, .getfield 198, 3, 17, 12, 0, 0, 0) ::
  (88, false, .aload_n 0, 1, 0, 0, 0, 0, 0) ::
  (89, false, .getfield 169, 3, 17, 7, 0, 0, 0) ::
  (92, false, .if_icmp .ge 235, 3, 182, 0, 0, 0, 0) ::
  (95, false, .iconst (-1), 1, 0, 0, 0, jI (-1), 0) ::
  (96, false, .istore_n 1, 1, 0, 0, 0, 0, 0) ::
  (97, false, .iconst 0, 1, 0, 0, 0, jI 0, 0) ::
  (98, false, .istore_n 2, 1, 0, 0, 0, 0, 0) ::
  (99, true, .iload_n 2, 1, 0, 0, 0, 0, 0) ::
  (100, false, .aload_n 0, 1, 0, 0, 0, 0, 0) ::
  (101, false, .getfield 169, 3, 17, 7, 0, 0, 0) ::
  (104, false, .if_icmp .ge 47, 3, 85, 0, 0, 0, 0) ::
  (107, true, .iload_n 1, 1, 0, 0, 0, 0, 0) ::
  (108, false, .ifCond .lt 18, 3, 72, 0, 0, 0, 0) ::
  (111, false, .aload_n 0, 1, 0, 0, 0, 0, 0) ::
  (112, false, .getfield 34, 3, 17, 9, 2, 0, 0) ::
  (115, false, .iload_n 2, 1, 0, 0, 0, 0, 0) ::
  (116, false, .iaload, 1, 0, 0, 0, 0, 0) ::
  (117, false, .aload_n 0, 1, 0, 0, 0, 0, 0) ::
  (118, false, .getfield 34, 3, 17, 9, 2, 0, 0) ::
  (121, false, .iload_n 1, 1, 0, 0, 0, 0, 0) ::
  (122, false, .iaload, 1, 0, 0, 0, 0, 0) ::
  (123, false, .if_icmp .le 22, 3, 83, 0, 0, 0, 0) ::
  cl_210_3
def cl_210_1 : List mj_E := (42, true, .iload_n 1, 1, 0, 0, 0, 0, 0) ::
  (43, false, .bipush 8, 2, 0, 0, 0, jI 8, 0) ::
  (45, false, .if_icmp .ge 24, 3, 39, 0, 0, 0, 0) ::
  (48, true, .aload_n 0, 1, 0, 0, 0, 0, 0) ::
  (49, false, .getfield 38, 3, 17, 10, 2, 0, 0) ::
  (52, false, .bipush 8, 2, 0, 0, 0, jI 8, 0) ::
  (54, false, .aload_n 0, 1, 0, 0, 0, 0, 0) ::
  (55, false, .getfield 201, 3, 17, 14, 0, 0, 0) ::
  (58, false, .imul, 1, 0, 0, 0, 0, 0) ::
  (59, false, .iload_n 1, 1, 0, 0, 0, 0, 0) ::
  (60, false, .iadd, 1, 0, 0, 0, 0, 0) ::
  (61, false, .iconst 0, 1, 0, 0, 0, jI 0, 0) ::
  (62, false, .iastore, 1, 0, 0, 0, 0, 0) ::
  (63, false, .iinc 1 1, 3, 0, 0, 0, jI 1, 0) ::
  (66, false, .goto (-24), 3, 24, 0, 0, 0, 0) ::
  (69, true, .aload_n 0, 1, 0, 0, 0, 0, 0) ::
  (70, false, .iconst 1, 1, 0, 0, 0, jI 1, 0) ::
  (71, false, .putfield 198, 3, 17, 12, 0, 0, 0) ::
  (74, false, .aload_n 0, 1, 0, 0, 0, 0, 0) ::
  (75, false, .getfield 45, 3, 17, 13, 2, 0, 0) ::
  (78, false, .iconst 0, 1, 0, 0, 0, jI 0, 0) ::
  (79, false, .aload_n 0, 1, 0, 0, 0, 0, 0) ::
  (80, false, .getfield 201, 3, 17, 14, 0, 0, 0) ::
  (83, false, .iastore, 1, 0, 0, 0, 0, 0) ::
  cl_210_2
def cl_210_0 : List mj_E := (0, false, .aload_n 0, 1, 0, 0, 0, 0, 0) ::
  (1, false, .iconst 0, 1, 0, 0, 0, jI 0, 0) ::
  (2, false, .putfield 208, 3, 17, 15, 0, 0, 0) ::
  (5, false, .iconst 0, 1, 0, 0, 0, jI 0, 0) ::
  (6, false, .istore_n 1, 1, 0, 0, 0, 0, 0) ::
  (7, true, .iload_n 1, 1, 0, 0, 0, 0, 0) ::
  (8, false, .aload_n 0, 1, 0, 0, 0, 0, 0) ::
  (9, false, .getfield 169, 3, 17, 7, 0, 0, 0) ::
  (12, false, .if_icmp .ge 28, 3, 22, 0, 0, 0, 0) ::
  (15, true, .aload_n 0, 1, 0, 0, 0, 0, 0) ::
  (16, false, .getfield 41, 3, 17, 11, 2, 0, 0) ::
  (19, false, .iload_n 1, 1, 0, 0, 0, 0, 0) ::
  (20, false, .iload_n 1, 1, 0, 0, 0, 0, 0) ::
  (21, false, .aload_n 0, 1, 0, 0, 0, 0, 0) ::
  (22, false, .getfield 201, 3, 17, 14, 0, 0, 0) ::
  (25, false, .if_icmp .ne 7, 3, 18, 0, 0, 0, 0) ::
  (28, false, .iconst 1, 1, 0, 0, 0, jI 1, 0) ::
  (29, false, .goto 4, 3, 19, 0, 0, 0, 0) ::
  (32, false, .iconst 0, 1, 0, 0, 0, jI 0, 0) ::
  (33, false, .bastore, 1, 0, 0, 0, 0, 0) ::
  (34, true, .iinc 1 1, 3, 0, 0, 0, jI 1, 0) ::
  (37, false, .goto (-30), 3, 5, 0, 0, 0, 0) ::
  (40, true, .iconst 0, 1, 0, 0, 0, jI 0, 0) ::
  (41, false, .istore_n 1, 1, 0, 0, 0, 0, 0) ::
  cl_210_1
def cd_210 : List mj_E := cl_210_0
def cx_210 : mj_X := (0, [], [])
theorem tb_210 : mj_tab (mj_mt 210) cx_210 cd_210 mj_mh [(0, 0, 0), (0, 0, 0), (7114, 0, 0), (0, 0, 0), (0, 0, 0), (0, 0, 0), (0, 0, 0), (7106, 0, 0), (0, 0, 0), (0, 0, 0), (7110, 0, 0), (0, 0, 0), (0, 0, 0), (0, 0, 0), (7113, 0, 0), (0, 0, 0), (0, 0, 0), (0, 0, 0), (0, 0, 0), (0, 0, 0), (0, 0, 0), (0, 0, 0), (0, 0, 0), (0, 0, 0), (0, 0, 0), (0, 0, 0), (0, 0, 0), (0, 0, 0), (7109, 0, 0), (0, 0, 0), (0, 0, 0), (7113, 0, 0), (0, 0, 0), (0, 0, 0), (0, 0, 0), (0, 0, 0), (0, 0, 0), (0, 0, 0), (0, 0, 0), (0, 0, 0), (0, 0, 0), (7111, 0, 0), (0, 0, 0), (7112, 0, 0), (0, 0, 0), (0, 0, 0), (7113, 0, 0), (0, 0, 0), (0, 0, 0), (7111, 0, 0), (0, 0, 0), (7106, 0, 0), (0, 0, 0), (0, 0, 0), (0, 0, 0), (0, 0, 0), (0, 0, 0), (0, 0, 0), (0, 0, 0), (7106, 0, 0), (0, 0, 0), (0, 0, 0), (0, 0, 0), (0, 0, 0), (7108, 0, 0), (0, 0, 0), (0, 0, 0), (0, 0, 0), (7108, 0, 0), (0, 0, 0), (0, 0, 0), (0, 0, 0), (0, 0, 0), (7110, 0, 0), (0, 0, 0), (0, 0, 0), (0, 0, 0), (0, 0, 0), (0, 0, 0), (7049, 0, 0), (0, 0, 0), (0, 0, 0), (0, 0, 0), (0, 0, 0), (0, 0, 0), (0, 0, 0), (7115, 0, 0), (0, 0, 0), (7114, 0, 0), (0, 0, 0), (0, 0, 0), (0, 0, 0), (7111, 0, 0), (0, 0, 0), (0, 0, 0), (0, 0, 0), (0, 0, 0), (0, 0, 0), (0, 0, 0), (0, 0, 0), (7108, 0, 0), (0, 0, 0), (0, 0, 0), (0, 0, 0), (0, 0, 0), (0, 0, 0), (0, 0, 0), (0, 0, 0), (0, 0, 0), (0, 0, 0), (0, 0, 0), (7112, 0, 0), (0, 0, 0), (0, 0, 0), (0, 0, 0), (7022, 0, 0), (0, 0, 0), (0, 0, 0), (0, 0, 0), (0, 0, 0), (0, 0, 0), (0, 0, 0), (0, 0, 0), (7109, 0, 0), (0, 0, 0), (0, 0, 0), (0, 0, 0), (0, 0, 0), (0, 0, 0), (0, 0, 0), (0, 0, 0), (7114, 0, 0), (0, 0, 0), (0, 0, 0), (0, 0, 0), (0, 0, 0), (7109, 0, 0), (0, 0, 0), (0, 0, 0), (7112, 0, 0), (0, 0, 0), (0, 0, 0), (0, 0, 0), (0, 0, 0), (0, 0, 0), (0, 0, 0), (0, 0, 0), (0, 0, 0), (0, 0, 0), (0, 0, 0), (7110, 0, 0), (0, 0, 0), (0, 0, 0), (0, 0, 0), (0, 0, 0), (7112, 0, 0), (0, 0, 0), (7111, 0, 0), (0, 0, 0), (0, 0, 0), (0, 0, 0), (0, 0, 0), (7111, 0, 0), (0, 0, 0), (0, 0, 0), (7111, 0, 0), (0, 0, 0), (0, 0, 0), (0, 0, 0), (0, 0, 0), (0, 0, 0), (7022, 0, 0), (0, 0, 0), (0, 0, 0), (0, 0, 0), (0, 0, 0), (0, 0, 0), (7114, 0, 0), (0, 0, 0), (0, 0, 0), (7114, 0, 0), (0, 0, 0), (0, 0, 0)] = true := mj_tab_f (by decide +kernel)
theorem ct_210 (G : mj_G) {h : mj_H} (L : isLam h) (T : isTF d w n A nxt cls cnt nm) (hw : wdP d w) (hfr : isFr d A cnt nm) (hT : isMT h d w n A cls cnt nm) {o : Fin cnt → Nat} (hG : isMg T o h) (ho : ∀ x, isOrd (mulC T) (oneC T) x (o x) ∧ o x ≤ 4096) {f0 : Nat} (hok0 : gnOT T o f0 (st0 T)) : mj_Ct G (mj_mt 210) 0 0 [.ref 1412] h (fun oc h' => oc = .returned none ∧ isMs (gnS T o f0 (st0 T)) h' ∧ FrM iGn jF sGn h h') := by
  have Gp := gpC T
  have hcnt := T.1.2.2.2.2.2.1
  have h1l := (oneC T).isLt
  have h7 : ∀ {h' : mj_H}, FrM iGn jF sGn h h' → hI h' 1412 7 = jI cnt := fun F => (F.2.2.1 7 (by omega)).trans hT.2.1.1
  have h14 : ∀ {h' : mj_H}, FrM iGn jF sGn h h' → hI h' 1412 14 = jI (oneC T).val := fun F => (F.2.2.1 14 (by omega)).trans hG.1
  have hTM : ∀ {h' : mj_H}, FrM iGn jF sGn h h' → isMT h' d w n A cls cnt nm := fun F => hT.M F ⟨by omega, by omega⟩ ⟨by omega, by omega⟩ (fun x hx => by omega)
  have hGM : ∀ {h' : mj_H}, FrM iGn jF sGn h h' → isMg T o h' := fun F => hG.M F (by omega) (by omega)
  have up : ∀ {h1 h2 : mj_H}, FrM noT jF noT h1 h2 → FrM iGn jF sGn h1 h2 := fun F => F.mono (fun _ z => z.elim) (fun _ z => z) (fun _ z => z.elim)
  have nat : ∀ {k : Nat}, k < 40960 → (jI (k : Int)).toNatClampNeg = k := by
    intro k hk
    rw [jI_nat (by omega) (by omega), Int.toNat_natCast]
  have vin : ∀ {h' : mj_H} {c k : Nat} (N : Nat), hN h' c = N → N ≤ 40960 → k < N → vp_in (jI (k : Int)) (hN h' c) := by
    intro h' c k N h1 h2 h3
    rw [h1]
    exact jI_in (by omega) (by omega) (by omega)
  refine mj_Ct_of mj_ok tb_210 rfl rfl (Nat.le_of_ble_eq_true rfl) (fun Run hR => ?_)
  have r84 : ∀ (f : Nat) (st : gS cnt) (h' : mj_H) (x1 x2 x3 x4 x5 x6 x7 : Option Value), gnOT T o f st → isMs st h' → FrM iGn jF sGn h h' → gnS T o f st = gnS T o f0 (st0 T) → Run 84 [some (.ref 1412), x1, x2, x3, x4, x5, x6, x7] [] h' (0, 0) := by
    intro f
    have done : ∀ (f : Nat) (st : gS cnt) (h' : mj_H) (x1 x2 x3 x4 x5 x6 x7 : Option Value), st.1.length = cnt → isMs st h' → FrM iGn jF sGn h h' → gnS T o f st = gnS T o f0 (st0 T) → Run 84 [some (.ref 1412), x1, x2, x3, x4, x5, x6, x7] [] h' (0, 0) := by
      intro f st h' x1 x2 x3 x4 x5 x6 x7 hl hs F he
      have L' := F.lay L
      refine hR 60 48 _ _ _ _ _ _ rfl ?_
      refine ⟨L'.K 1412 rfl, L'.K 1412 rfl, fun c => ?_, fun c => ?_⟩
      · refine ⟨rfl, ?_, F⟩
        rw [← he, gnS_full T o hl]
        exact hs
      · rw [h7 F, hs.2.1, hl] at c
        simp (disch := omega) only [mj_lcm, jI_lt, jI_le, jI_eq, jL_lt, jL_le, jL_eq, jI_lt0, jI_0le, jI_0lt, jI_le0, jI_eq0, jL_eq0, jI_L, jI_add, jI_sub, jI_mul, jI_neg, jL_add, jL_sub, jL_mul, jL_neg, jL_I, jI_div, jI_mod, jL_div, jL_mod] at c
        omega
    induction f with
    | zero =>
      intro st h' x1 x2 x3 x4 x5 x6 x7 hok hs F he
      exact done 0 st h' _ _ _ _ _ _ _ hok hs F he
    | succ f ih =>
      intro st h' x1 x2 x3 x4 x5 x6 x7 hok hs F he
      rcases hok with hfull | ⟨hlt, hap, g, hg, hg1, hg8, hgl, hnext⟩
      · exact done (f + 1) st h' _ _ _ _ _ _ _ hfull hs F he
      have hgll := g.isLt
      have hog := (ho g).1
      have hog2 := (ho g).2
      have he2 : gnS T o f (jnS T o st g) = gnS T o f0 (st0 T) := by
        rw [← he]
        show _ = (if st.1.length < cnt then (match bstS T o st.1 cnt with | some g => gnS T o f (jnS T o st g) | none => st) else st)
        rw [if_pos hlt, hg]
      have hlen1 : 1 ≤ st.1.length ∨ st.1.length = 0 := by omega
      have hB4 : st.1.length ≤ 4096 := hs.2.2.1.1
      -- the walk with a found generator
      have r314 : ∀ (h3 : mj_H) (x1 x2 x3 x4 x5 x6 x7 : Option Value), FrM iGn jF sGn h h3 → isMs (outS T st.1 g (o g - 1) st) h3 → hI h3 1421 st.2.2.length = jI g.val → Run 314 [some (.ref 1412), x1, x2, x3, x4, x5, x6, x7] [] h3 (0, 0) := by
        intro h3 x1 x2 x3 x4 x5 x6 x7 F3 hs3 hgen
        have L3 := F3.lay L
        have hpre := (outS_pre T st.1 g st (o g - 1)).1
        refine hR 60 175 _ _ _ _ _ _ rfl ?_
        refine ⟨L3.K 1412 rfl, L3.K 1412 rfl, ?_⟩
        refine ih (jnS T o st g) _ _ _ _ _ _ _ _ hnext ?_ (F3.fI (by omega) _) he2
        obtain ⟨s1, s2, s3, s4, s5, s6, s7⟩ := hs3
        rw [hpre] at s1 s3 s7
        refine ⟨?_, s2, ⟨s3.1, ?_, s3.2.2⟩, s4, s5, s6, ?_⟩
        · refine (sI_at _ _ _ _).trans ?_
          rw [s1, jI_add]
          show _ = jI (((outS T st.1 g (o g - 1) st).2.2 ++ [g]).length : Nat)
          rw [List.length_append, hpre]
          rfl
        · show ((outS T st.1 g (o g - 1) st).2.2 ++ [g]).length ≤ 8
          rw [List.length_append, hpre]
          show st.2.2.length + 1 ≤ 8
          omega
        · intro i y hy
          have hy' : ((outS T st.1 g (o g - 1) st).2.2 ++ [g])[i]? = some y := hy
          rw [hpre] at hy'
          show hI h3 1421 i = _
          by_cases hi : i = st.2.2.length
          · rw [hi] at hy' ⊢
            rw [at_mid st.2.2 g []] at hy'
            rw [← Option.some.inj hy']
            exact hgen
          · have hlt := lt_of_some hy'
            simp only [List.length_append, List.length_cons, List.length_nil] at hlt
            rw [List.getElem?_append_left (by omega)] at hy'
            exact s7 i y hy'
      have r171 : ∀ (m e : Nat) (p : Fin cnt) (eI pI' : Int32) (h3 : mj_H) (x5 x6 x7 : Option Value), e + 1 + m = o g → p = pw (mulC T) (oneC T) g (e + 1) → FrM iGn jF sGn h h3 → isMs (outS T st.1 g e st) h3 → hI h3 1421 st.2.2.length = jI g.val → eI = jI (e + 1 : Nat) → pI' = jI p.val → Run 171 [some (.ref 1412), some (.int (jI g.val)), some (.int (jI st.1.length)), some (.int pI'), some (.int eI), x5, x6, x7] [] h3 (0, 0) := by
        intro m
        induction m with
        | zero =>
          rintro e p eI pI' h3 x5 x6 x7 hm hp F3 hs3 hgen rfl rfl
          have L3 := F3.lay L
          have e17 : hI h3 1417 (jI (g.val : Int)).toNatClampNeg = jI (o g) := by
            rw [nat (by omega)]
            exact (hGM F3).2 g
          refine hR 60 98 _ _ _ _ _ _ rfl ?_
          refine ⟨L3.K 1412 rfl, _, L3.R 1412 9 _ rfl, Or.inl (L3.K 1417 rfl), vin 4096 (L3.N 1416 rfl) (by omega) (by omega), fun c => ?_, fun c => ?_⟩
          · refine r314 h3 _ _ _ _ _ _ _ F3 ?_ hgen
            rw [show o g - 1 = e by omega]
            exact hs3
          · rw [e17] at c
            simp (disch := omega) only [mj_lcm, jI_lt, jI_le, jI_eq, jL_lt, jL_le, jL_eq, jI_lt0, jI_0le, jI_0lt, jI_le0, jI_eq0, jL_eq0, jI_L, jI_add, jI_sub, jI_mul, jI_neg, jL_add, jL_sub, jL_mul, jL_neg, jL_I, jI_div, jI_mod, jL_div, jL_mod] at c
            omega
        | succ m ihm =>
          rintro e p eI pI' h3 x5 x6 x7 hm hp F3 hs3 hgen rfl rfl
          have L3 := F3.lay L
          have hpl := p.isLt
          have hp1 : p ≠ oneC T := by
            rw [hp]
            exact hog.2.2 (e + 1) (by omega) (by omega)
          have e17 : hI h3 1417 (jI (g.val : Int)).toNatClampNeg = jI (o g) := by
            rw [nat (by omega)]
            exact (hGM F3).2 g
          obtain ⟨hq1, yE, hq2, hq3⟩ := outS_pre T st.1 g st e
          -- behind a round of members
          have r308 : ∀ (h4 : mj_H) (pI' : Int32) (x5 x6 x7 : Option Value), FrM iGn jF sGn h h4 → isMs (outS T st.1 g (e + 1) st) h4 → hI h4 1421 st.2.2.length = jI g.val → pI' = jI (pw (mulC T) (oneC T) g (e + 1 + 1)).val → Run 308 [some (.ref 1412), some (.int (jI g.val)), some (.int (jI st.1.length)), some (.int pI'), some (.int (jI (e + 1 : Nat))), x5, x6, x7] [] h4 (0, 0) := by
            intro h4 pI' x5 x6 x7 F4 hs4 hgen4 hpe
            refine hR 60 173 _ _ _ _ _ _ rfl ?_
            exact ihm (e + 1) (pw (mulC T) (oneC T) g (e + 1 + 1)) _ _ h4 _ _ _ (by omega) rfl F4 hs4 hgen4 (by rw [jI_add]; rfl) hpe
          have r301 : ∀ (h4 : mj_H) (x5 x6 x7 : Option Value), FrM iGn jF sGn h h4 → isMs (outS T st.1 g (e + 1) st) h4 → hI h4 1421 st.2.2.length = jI g.val → Run 301 [some (.ref 1412), some (.int (jI g.val)), some (.int (jI st.1.length)), some (.int (jI p.val)), some (.int (jI (e + 1 : Nat))), x5, x6, x7] [] h4 (0, 0) := by
            intro h4 x5 x6 x7 F4 hs4 hgen4
            have L4 := F4.lay L
            refine hR 60 168 _ _ _ _ _ _ rfl ?_
            refine ⟨L4.K 1412 rfl, jcallP (ct_204 G L4 T hw hfr (hTM F4) p g) ?_⟩
            rintro oc h5 ⟨rfl, F5⟩
            refine r308 h5 _ _ _ _ (F4.trans (up F5)) (hs4.M F5 ⟨fun z => z, fun z => z⟩ (fun _ _ z => z)) ((F5.I (by decide) (fun z => z) _).trans hgen4) ?_
            rw [show pw (mulC T) (oneC T) g (e + 1 + 1) = mulC T p g by rw [hp]; rfl]
          have r185 : ∀ (j i : Nat) (iI : Int32) (h4 : mj_H) (x6 x7 : Option Value), i + j = st.1.length → FrM iGn jF sGn h h4 → isMs (innS T st.1 (e + 1) p i (outS T st.1 g e st)) h4 → hI h4 1421 st.2.2.length = jI g.val → iI = jI i → Run 185 [some (.ref 1412), some (.int (jI g.val)), some (.int (jI st.1.length)), some (.int (jI p.val)), some (.int (jI (e + 1 : Nat))), some (.int iI), x6, x7] [] h4 (0, 0) := by
            intro j
            induction j with
            | zero =>
              rintro i iI h4 x6 x7 hi F4 hs4 hgen4 rfl
              refine hR 60 106 _ _ _ _ _ _ rfl ?_
              refine ⟨fun c => ?_, fun c => ?_⟩
              · refine r301 h4 _ _ _ F4 ?_ hgen4
                rw [outS_one, ← hp, show st.1.length = i by omega]
                exact hs4
              · simp (disch := omega) only [mj_lcm, jI_lt, jI_le, jI_eq, jL_lt, jL_le, jL_eq, jI_lt0, jI_0le, jI_0lt, jI_le0, jI_eq0, jL_eq0, jI_L, jI_add, jI_sub, jI_mul, jI_neg, jL_add, jL_sub, jL_mul, jL_neg, jL_I, jI_div, jI_mod, jL_div, jL_mod] at c
                omega
            | succ j ihj =>
              rintro i iI h4 x6 x7 hi F4 hs4 hgen4 rfl
              have L4 := F4.lay L
              obtain ⟨hi1, yI, hi2, hi3⟩ := innS_pre T st.1 (e + 1) p (outS T st.1 g e st) i (by omega)
              have hBi : st.1[i]? = some st.1[i] := List.getElem?_eq_getElem (by omega)
              obtain ⟨mm, hmm⟩ : ∃ mm, mm = st.1[i]'(by omega) := ⟨_, rfl⟩
              rw [← hmm] at hBi
              have hone := innS_one T (e + 1) p (outS T st.1 g e st) hBi
              obtain ⟨s', hs'⟩ : ∃ s', s' = innS T st.1 (e + 1) p i (outS T st.1 g e st) := ⟨_, rfl⟩
              rw [← hs'] at hs4 hi1 hi2 hone
              have hs1 : s'.1 = st.1 ++ (yE ++ yI) := by rw [hi2, hq2, List.append_assoc]
              have hs22 : s'.2.2 = st.2.2 := by rw [hi1, hq1]
              have hslen : s'.1.length < 4096 := by
                have h1 : s'.1.length = st.1.length + (st.1.length * e + i) := by rw [hs1, List.length_append, List.length_append, hq3, hi3]
                have h2 : st.1.length * (e + 2) ≤ st.1.length * o g := Nat.mul_le_mul (Nat.le_refl _) (by omega)
                rw [Nat.mul_add] at h2
                omega
              have hmem : mm ∈ s'.1 := by
                rw [hs1]
                exact List.mem_append_left _ (List.mem_iff_getElem?.2 ⟨i, hBi⟩)
              obtain ⟨k, hk⟩ : ∃ k, k = mulC T mm p := ⟨_, rfl⟩
              have hkl := k.isLt
              have hml := mm.isLt
              have hne : k.val ≠ mm.val := by
                intro z
                have z2 : mulC T mm p = mm := hk ▸ Fin.ext z
                have z3 : mulC T mm p = mulC T mm (oneC T) := z2.trans (gp_e Gp mm).symm
                exact hp1 (gp_cancel Gp z3)
              obtain ⟨nw, hnw⟩ : ∃ nw : Nat → Nat, nw = fun t => if t = s'.2.2.length then e + 1 else s'.2.1 mm t := ⟨_, rfl⟩
              have hput : putS T (e + 1) p s' mm = (s'.1 ++ [k], updE s'.2.1 k nw, s'.2.2) := by
                unfold putS
                rw [← hk, hnw]
              rw [hput] at hone
              have r295 : ∀ (h5 : mj_H) (x7 : Option Value), FrM iGn jF sGn h h5 → isMs (s'.1 ++ [k], updE s'.2.1 k nw, s'.2.2) h5 → hI h5 1421 st.2.2.length = jI g.val → Run 295 [some (.ref 1412), some (.int (jI g.val)), some (.int (jI st.1.length)), some (.int (jI p.val)), some (.int (jI (e + 1 : Nat))), some (.int (jI i)), some (.int (jI k.val)), x7] [] h5 (0, 0) := by
                intro h5 x7 F5 hs5 hgen5
                refine hR 60 166 _ _ _ _ _ _ rfl ?_
                exact ihj (i + 1) _ h5 _ _ (by omega) F5 (by rw [hone]; exact hs5) hgen5 (by rw [jI_add]; rfl)
              have r208 : ∀ (h1 : mj_H), FrM iGn jF sGn h h1 → isMs s' h1 → hI h1 1421 st.2.2.length = jI g.val → ∀ (u q : Nat) (qI : Int32) (h5 : mj_H), q + u = 8 → FrM noT noT (fun c => c = 1418) h1 h5 → (∀ t, t < q → hI h5 1418 (8 * k.val + t) = jI (nw t)) → (∀ c, (∀ t, t < 8 → c ≠ 8 * k.val + t) → hI h5 1418 c = hI h1 1418 c) → qI = jI q → Run 208 [some (.ref 1412), some (.int (jI g.val)), some (.int (jI st.1.length)), some (.int (jI p.val)), some (.int (jI (e + 1 : Nat))), some (.int (jI i)), some (.int (jI k.val)), some (.int qI)] [] h5 (0, 0) := by
                intro h1 F1 hs1' hgen1 u
                obtain ⟨s1, s2, s3, s4, s5, s6, s7⟩ := id hs1'
                induction u with
                | zero =>
                  rintro q qI h5 hq F5 hrow hrest rfl
                  have F15 : FrM iGn jF sGn h h5 := F1.trans (F5.mono (fun _ z => z.elim) (fun _ z => z.elim) (fun _ z => by omega))
                  have L5 := F15.lay L
                  have g12 : hI h5 1412 12 = jI s'.1.length := (F5.2.2.1 12 (fun z => z)).trans s2
                  have hq8 : q = 8 := by omega
                  have v12 : vp_in (hI h5 1412 12) (hN h5 1420) := by
                    rw [g12]
                    exact vin 4096 (L5.N 1419 rfl) (by omega) (by omega)
                  have n12 : (hI h5 1412 12).toNatClampNeg = s'.1.length := by rw [g12, nat (by omega)]
                  have r266 : ∀ x7 : Int32, Run 266 [some (.ref 1412), some (.int (jI g.val)), some (.int (jI st.1.length)), some (.int (jI p.val)), some (.int (jI (e + 1 : Nat))), some (.int (jI i)), some (.int (jI k.val)), some (.int x7)] [] h5 (0, 0) := by
                    intro x7
                    refine hR 60 149 _ _ _ _ _ _ rfl ?_
                    refine ⟨L5.K 1412 rfl, _, L5.R 1412 11 _ rfl, L5.K 1419 rfl, vin 4096 (L5.N 1418 rfl) (by omega) (by omega), L5.K 1412 rfl, _, L5.R 1412 13 _ rfl, L5.K 1412 rfl, L5.K 1420 rfl, v12, L5.K 1412 rfl, L5.K 1412 rfl, ?_⟩
                    have e5 : sI (sI (sI h5 1419 (jI (k.val : Int)).toNatClampNeg (jI 1 &&& 1)) 1420 (hI h5 1412 12).toNatClampNeg (jI k.val)) 1412 12 (hI h5 1412 12 + jI 1) = sI (sI (sI h5 1419 k.val (jI 1)) 1420 s'.1.length (jI k.val)) 1412 12 (jI (s'.1.length + 1 : Nat)) := by
                      rw [nat (by omega), n12, g12, jI_add]
                      rfl
                    have r := r295 (sI (sI (sI h5 1419 k.val (jI 1)) 1420 s'.1.length (jI k.val)) 1412 12 (jI (s'.1.length + 1 : Nat))) (some (.int x7)) (((F15.aI (c := 1419) (by omega) (by decide) _ _).aI (c := 1420) (by omega) (by decide) _ _).fI (by omega) _) ?_ ?_
                    · rw [← e5] at r
                      exact r
                    · refine ⟨?_, ?_, ⟨?_, s3.2⟩, ?_, ?_, ?_, ?_⟩
                      · exact (sI_k _ _ (by decide) _).trans ((F5.2.2.1 15 (fun z => z)).trans s1)
                      · rw [List.length_append]
                        exact sI_at _ _ _ _
                      · rw [List.length_append]
                        show s'.1.length + 1 ≤ 4096
                        omega
                      · intro c y hy
                        refine (congrFun (sI_a _ (by decide) _ _) c).trans ?_
                        by_cases hc : c = s'.1.length
                        · rw [hc] at hy ⊢
                          rw [at_mid s'.1 k []] at hy
                          rw [← Option.some.inj hy]
                          exact sI_at _ _ _ _
                        · have hlt := lt_of_some hy
                          simp only [List.length_append, List.length_cons, List.length_nil] at hlt
                          rw [List.getElem?_append_left (by omega)] at hy
                          refine (sI_k _ _ hc _).trans ?_
                          refine (congrFun (sI_a _ (by decide) _ _) c).trans ?_
                          exact (F5.I (by decide) (by decide) _).trans (s4 c y hy)
                      · intro y
                        show hI (sI h5 1419 k.val (jI 1)) 1419 y.val = _
                        by_cases hy : y.val = k.val
                        · rw [show y = k from Fin.ext hy, if_pos (List.mem_append_right _ (List.mem_singleton.2 rfl))]
                          exact sI_at _ _ _ _
                        · refine (sI_k _ _ hy _).trans ?_
                          rw [(F5.I (by decide) (by decide) _).trans (s5 y)]
                          congr 2
                          refine propext ⟨fun z => List.mem_append_left _ z, fun z => ?_⟩
                          rcases List.mem_append.1 z with z | z
                          · exact z
                          · exact absurd (congrArg Fin.val (List.mem_singleton.1 z)) hy
                      · intro y hy t ht
                        show hI h5 1418 (8 * y.val + t) = jI (updE s'.2.1 k nw y t) ∧ updE s'.2.1 k nw y t < 32768
                        unfold updE
                        by_cases hyk : y = k
                        · rw [if_pos hyk, hyk]
                          refine ⟨hrow t (by omega), ?_⟩
                          rw [hnw]
                          show (if t = s'.2.2.length then e + 1 else s'.2.1 mm t) < 32768
                          split
                          · omega
                          · exact (s6 mm hmem t ht).2
                        · rw [if_neg hyk]
                          have hym : y ∈ s'.1 := by
                            rcases List.mem_append.1 hy with z | z
                            · exact z
                            · exact absurd (List.mem_singleton.1 z) hyk
                          have hyv : y.val ≠ k.val := fun z => hyk (Fin.ext z)
                          exact ⟨(hrest _ (fun t' ht' => by omega)).trans (s6 y hym t ht).1, (s6 y hym t ht).2⟩
                      · intro c y hy
                        show hI h5 1421 c = _
                        exact (F5.I (by decide) (by decide) _).trans (s7 c y hy)
                    · show hI h5 1421 _ = _
                      exact (F5.I (by decide) (by decide) _).trans hgen1
                  refine hR 60 119 _ _ _ _ _ _ rfl ?_
                  refine ⟨fun c => r266 _, fun c => ?_⟩
                  simp (disch := omega) only [mj_lcm, jI_lt, jI_le, jI_eq, jL_lt, jL_le, jL_eq, jI_lt0, jI_0le, jI_0lt, jI_le0, jI_eq0, jL_eq0, jI_L, jI_add, jI_sub, jI_mul, jI_neg, jL_add, jL_sub, jL_mul, jL_neg, jL_I, jI_div, jI_mod, jL_div, jL_mod] at c
                  omega
                | succ u ihu =>
                  rintro q qI h5 hq F5 hrow hrest rfl
                  have F15 : FrM iGn jF sGn h h5 := F1.trans (F5.mono (fun _ z => z.elim) (fun _ z => z.elim) (fun _ z => by omega))
                  have L5 := F15.lay L
                  have e8 : jI 8 * jI (k.val : Int) + jI (q : Int) = jI ((8 * k.val + q : Nat) : Int) := by
                    rw [jI_mul, jI_add]
                    rfl
                  have e8m : jI 8 * jI (mm.val : Int) + jI (q : Int) = jI ((8 * mm.val + q : Nat) : Int) := by
                    rw [jI_mul, jI_add]
                    rfl
                  have g15 : hI h5 1412 15 = jI s'.2.2.length := (F5.2.2.1 15 (fun z => z)).trans s1
                  have g20 : hI h5 1420 (jI (i : Int)).toNatClampNeg = jI mm.val := by
                    rw [nat (by omega)]
                    refine (F5.I (by decide) (by decide) _).trans (s4 i mm ?_)
                    rw [hs1, List.getElem?_append_left (by omega)]
                    exact hBi
                  have r260 : ∀ (h6 : mj_H), FrM noT noT (fun c => c = 1418) h1 h6 → (∀ t, t < q + 1 → hI h6 1418 (8 * k.val + t) = jI (nw t)) → (∀ c, (∀ t, t < 8 → c ≠ 8 * k.val + t) → hI h6 1418 c = hI h1 1418 c) → Run 260 [some (.ref 1412), some (.int (jI g.val)), some (.int (jI st.1.length)), some (.int (jI p.val)), some (.int (jI (e + 1 : Nat))), some (.int (jI i)), some (.int (jI k.val)), some (.int (jI q))] [] h6 (0, 0) := by
                    intro h6 F6 hrow6 hrest6
                    refine hR 60 147 _ _ _ _ _ _ rfl ?_
                    exact ihu (q + 1) _ h6 (by omega) F6 hrow6 hrest6 (by rw [jI_add]; rfl)
                  have stp : ∀ v : Int32, v = jI (nw q) → Run 260 [some (.ref 1412), some (.int (jI g.val)), some (.int (jI st.1.length)), some (.int (jI p.val)), some (.int (jI (e + 1 : Nat))), some (.int (jI i)), some (.int (jI k.val)), some (.int (jI q))] [] (sI h5 1418 (jI 8 * jI (k.val : Int) + jI (q : Int)).toNatClampNeg v) (0, 0) := by
                    intro v hv
                    rw [e8, nat (by omega), hv]
                    refine r260 _ (F5.aI rfl (by decide) _ _) (fun t ht => ?_) (fun c hc => ?_)
                    · by_cases z : t = q
                      · rw [z]
                        exact sI_at _ _ _ _
                      · exact (sI_k _ _ (by omega) _).trans (hrow t (by omega))
                    · exact (sI_k _ _ (hc q (by omega)) _).trans (hrest c hc)
                  have v1 : vp_in (jI 8 * jI (k.val : Int) + jI (q : Int)) (hN h5 1418) := by
                    rw [e8]
                    exact vin 32768 (L5.N 1417 rfl) (by omega) (by omega)
                  have v2 : vp_in (jI 8 * hI h5 1420 (jI (i : Int)).toNatClampNeg + jI (q : Int)) (hN h5 1418) := by
                    rw [g20, e8m]
                    exact vin 32768 (L5.N 1417 rfl) (by omega) (by omega)
                  have r215 : Run 215 [some (.ref 1412), some (.int (jI g.val)), some (.int (jI st.1.length)), some (.int (jI p.val)), some (.int (jI (e + 1 : Nat))), some (.int (jI i)), some (.int (jI k.val)), some (.int (jI q))] [] h5 (0, 0) := by
                    refine hR 60 122 _ _ _ _ _ _ rfl ?_
                    refine ⟨L5.K 1412 rfl, _, L5.R 1412 10 _ rfl, L5.K 1412 rfl, fun c => ⟨L5.K 1418 rfl, v1, ?_⟩, fun c => ⟨L5.K 1412 rfl, _, L5.R 1412 10 _ rfl, L5.K 1412 rfl, _, L5.R 1412 13 _ rfl, Or.inl (L5.K 1420 rfl), vin 4096 (L5.N 1419 rfl) (by omega) (by omega), Or.inl (L5.K 1418 rfl), v2, L5.K 1418 rfl, v1, ?_⟩⟩
                    · rw [g15, jI_eq (by omega) (by omega) (by omega) (by omega)] at c
                      refine stp _ ?_
                      rw [hnw]
                      show _ = jI ((if q = s'.2.2.length then e + 1 else s'.2.1 mm q : Nat) : Int)
                      rw [if_pos (by omega)]
                    · rw [g15, jI_eq (by omega) (by omega) (by omega) (by omega)] at c
                      refine stp _ ?_
                      rw [g20, e8m, nat (by omega), hnw]
                      show _ = jI ((if q = s'.2.2.length then e + 1 else s'.2.1 mm q : Nat) : Int)
                      rw [if_neg (by omega), ← (s6 mm hmem q (by omega)).1]
                      exact hrest _ (fun t ht => by omega)
                  refine hR 60 119 _ _ _ _ _ _ rfl ?_
                  refine ⟨fun c => ?_, fun c => r215⟩
                  simp (disch := omega) only [mj_lcm, jI_lt, jI_le, jI_eq, jL_lt, jL_le, jL_eq, jI_lt0, jI_0le, jI_0lt, jI_le0, jI_eq0, jL_eq0, jI_L, jI_add, jI_sub, jI_mul, jI_neg, jL_add, jL_sub, jL_mul, jL_neg, jL_I, jI_div, jI_mod, jL_div, jL_mod] at c
                  omega
              have r205 : ∀ (h1 : mj_H) (x7 : Option Value), FrM iGn jF sGn h h1 → isMs s' h1 → hI h1 1421 st.2.2.length = jI g.val → Run 205 [some (.ref 1412), some (.int (jI g.val)), some (.int (jI st.1.length)), some (.int (jI p.val)), some (.int (jI (e + 1 : Nat))), some (.int (jI i)), some (.int (jI k.val)), x7] [] h1 (0, 0) := by
                intro h1 x7 F1 hs1' hgen1
                refine hR 60 117 _ _ _ _ _ _ rfl ?_
                exact r208 h1 F1 hs1' hgen1 8 0 _ h1 (by omega) (FrM.refl _ _ _ h1) (fun t ht => by omega) (fun c _ => rfl) rfl
              have r191 : Run 191 [some (.ref 1412), some (.int (jI g.val)), some (.int (jI st.1.length)), some (.int (jI p.val)), some (.int (jI (e + 1 : Nat))), some (.int (jI i)), x6, x7] [] h4 (0, 0) := by
                have g20 : hI h4 1420 (jI (i : Int)).toNatClampNeg = jI mm.val := by
                  rw [nat (by omega)]
                  refine hs4.2.2.2.1 i mm ?_
                  rw [hs1, List.getElem?_append_left (by omega)]
                  exact hBi
                have c204 := ct_204 G L4 T hw hfr (hTM F4) mm p
                rw [← g20] at c204
                refine hR 60 109 _ _ _ _ _ _ rfl ?_
                refine ⟨L4.K 1412 rfl, _, L4.R 1412 13 _ rfl, Or.inl (L4.K 1420 rfl), vin 4096 (L4.N 1419 rfl) (by omega) (by omega), L4.K 1412 rfl, jcallP c204 ?_⟩
                rintro oc h5 ⟨rfl, F5⟩
                rw [← hk]
                exact r205 h5 _ (F4.trans (up F5)) (hs4.M F5 ⟨fun z => z, fun z => z⟩ (fun _ _ z => z)) ((F5.I (by decide) (fun z => z) _).trans hgen4)
              refine hR 60 106 _ _ _ _ _ _ rfl ?_
              refine ⟨fun c => ?_, fun c => r191⟩
              simp (disch := omega) only [mj_lcm, jI_lt, jI_le, jI_eq, jL_lt, jL_le, jL_eq, jI_lt0, jI_0le, jI_0lt, jI_le0, jI_eq0, jL_eq0, jI_L, jI_add, jI_sub, jI_mul, jI_neg, jL_add, jL_sub, jL_mul, jL_neg, jL_I, jI_div, jI_mod, jL_div, jL_mod] at c
              omega
          have r182 : ∀ (x5 x6 x7 : Option Value), Run 182 [some (.ref 1412), some (.int (jI g.val)), some (.int (jI st.1.length)), some (.int (jI p.val)), some (.int (jI (e + 1 : Nat))), x5, x6, x7] [] h3 (0, 0) := by
            intro x5 x6 x7
            refine hR 60 104 _ _ _ _ _ _ rfl ?_
            exact r185 st.1.length 0 _ h3 _ _ (by omega) F3 hs3 hgen rfl
          refine hR 60 98 _ _ _ _ _ _ rfl ?_
          refine ⟨L3.K 1412 rfl, _, L3.R 1412 9 _ rfl, Or.inl (L3.K 1417 rfl), vin 4096 (L3.N 1416 rfl) (by omega) (by omega), fun c => ?_, fun c => r182 _ _ _⟩
          rw [e17] at c
          simp (disch := omega) only [mj_lcm, jI_lt, jI_le, jI_eq, jL_lt, jL_le, jL_eq, jI_lt0, jI_0le, jI_0lt, jI_le0, jI_eq0, jL_eq0, jI_L, jI_add, jI_sub, jI_mul, jI_neg, jL_add, jL_sub, jL_mul, jL_neg, jL_I, jI_div, jI_mod, jL_div, jL_mod] at c
          omega
      have r166 : ∀ (h3 : mj_H) (x3 x4 x5 x6 x7 : Option Value), FrM iGn jF sGn h h3 → isMs st h3 → hI h3 1421 st.2.2.length = jI g.val → Run 166 (l210 (jI g.val) (jI st.1.length) x3 x4 x5 x6 x7) [] h3 (0, 0) := by
        intro h3 x3 x4 x5 x6 x7 F3 hs3 hgen
        refine hR 60 94 _ _ _ _ _ _ rfl ?_
        exact r171 (o g - 1) 0 g _ _ h3 _ _ _ (by omega) (pw_one Gp g).symm F3 hs3 hgen rfl rfl
      have r161 : ∀ (h3 : mj_H) (x2 x3 x4 x5 x6 x7 : Option Value), FrM iGn jF sGn h h3 → isMs st h3 → hI h3 1421 st.2.2.length = jI g.val → Run 161 [some (.ref 1412), some (.int (jI g.val)), x2, x3, x4, x5, x6, x7] [] h3 (0, 0) := by
        intro h3 x2 x3 x4 x5 x6 x7 F3 hs3 hgen
        refine hR 60 91 _ _ _ _ _ _ rfl ?_
        refine ⟨(F3.lay L).K 1412 rfl, ?_⟩
        rw [hs3.2.1]
        exact r166 h3 _ _ _ _ _ F3 hs3 hgen
      have r151 : ∀ (h3 : mj_H) (b : Int32) (x2 x3 x4 x5 x6 x7 : Option Value), FrM iGn jF sGn h h3 → isMs st h3 → b = jI g.val → Run 151 [some (.ref 1412), some (.int b), x2, x3, x4, x5, x6, x7] [] h3 (0, 0) := by
        rintro h3 b x2 x3 x4 x5 x6 x7 F3 hs3 rfl
        have L3 := F3.lay L
        have v15 : vp_in (hI h3 1412 15) (hN h3 1421) := by
          rw [hs3.1]
          exact vin 8 (L3.N 1420 rfl) (by omega) (by omega)
        have n15 : (hI h3 1412 15).toNatClampNeg = st.2.2.length := by rw [hs3.1, nat (by omega)]
        refine hR 60 85 _ _ _ _ _ _ rfl ?_
        refine ⟨L3.K 1412 rfl, _, L3.R 1412 16 _ rfl, L3.K 1412 rfl, L3.K 1421 rfl, v15, ?_⟩
        rw [n15]
        refine r161 _ _ _ _ _ _ _ (F3.aI (c := 1421) (by omega) (by decide) _ _) ?_ (sI_at _ _ _ _)
        obtain ⟨s1, s2, s3, s4, s5, s6, s7⟩ := hs3
        refine ⟨s1, s2, s3, s4, s5, s6, fun i y hy => ?_⟩
        have hlt := lt_of_some hy
        exact (sI_k _ _ (by omega) _).trans (s7 i y hy)
      have r99 : ∀ (m k : Nat) (b : Option (Fin cnt)) (bI' kI : Int32) (h3 : mj_H) (x3 x4 x5 x6 x7 : Option Value), k + m = cnt → b = bstS T o st.1 k → FrM iGn jF sGn h h3 → isMs st h3 → bI' = jI (bI b) → kI = jI k → Run 99 (l210 bI' kI x3 x4 x5 x6 x7) [] h3 (0, 0) := by
        intro m
        induction m with
        | zero =>
          rintro k b bI' kI h3 x3 x4 x5 x6 x7 hk hb F3 hs3 rfl rfl
          have L3 := F3.lay L
          refine hR 60 57 _ _ _ _ _ _ rfl ?_
          refine ⟨L3.K 1412 rfl, fun c => ?_, fun c => ?_⟩
          · refine r151 h3 _ _ _ _ _ _ _ F3 hs3 ?_
            rw [hb, show k = cnt by omega, hg]
            rfl
          · rw [h7 F3] at c
            simp (disch := omega) only [mj_lcm, jI_lt, jI_le, jI_eq, jL_lt, jL_le, jL_eq, jI_lt0, jI_0le, jI_0lt, jI_le0, jI_eq0, jL_eq0, jI_L, jI_add, jI_sub, jI_mul, jI_neg, jL_add, jL_sub, jL_mul, jL_neg, jL_I, jI_div, jI_mod, jL_div, jL_mod] at c
            omega
        | succ m ihm =>
          rintro k b bI' kI h3 x3 x4 x5 x6 x7 hk hb F3 hs3 rfl rfl
          have L3 := F3.lay L
          have hkc : k < cnt := by omega
          have r145 : ∀ (b' : Option (Fin cnt)) (bI' : Int32) (h4 : mj_H) (x3 x4 x5 x6 x7 : Option Value), b' = bstS T o st.1 (k + 1) → FrM iGn jF sGn h h4 → isMs st h4 → bI' = jI (bI b') → Run 145 (l210 bI' (jI k) x3 x4 x5 x6 x7) [] h4 (0, 0) := by
            intro b' bI' h4 x3 x4 x5 x6 x7 hb' F4 hs4 e
            refine hR 60 83 _ _ _ _ _ _ rfl ?_
            exact ihm (k + 1) b' _ _ h4 _ _ _ _ _ (by omega) hb' F4 hs4 e (by rw [jI_add]; rfl)
          have no : ¬ ((∀ b', bstS T o st.1 k = some b' → o b' < o ⟨k, hkc⟩) ∧ aptP T o st.1 ⟨k, hkc⟩) → ∀ (h4 : mj_H) (x3 x4 x5 x6 x7 : Option Value), FrM iGn jF sGn h h4 → isMs st h4 → Run 145 (l210 (jI (bI b)) (jI k) x3 x4 x5 x6 x7) [] h4 (0, 0) := by
            intro hno h4 x3 x4 x5 x6 x7 F4 hs4
            exact r145 b _ h4 _ _ _ _ _ (by rw [bstS_no T o st.1 hkc hno, hb]) F4 hs4 rfl
          have r126 : (∀ b', bstS T o st.1 k = some b' → o b' < o ⟨k, hkc⟩) → Run 126 (l210 (jI (bI b)) (jI k) x3 x4 x5 x6 x7) [] h3 (0, 0) := by
            intro hbst
            have e19 : hI h3 1419 (jI (k : Int)).toNatClampNeg = jI (if (⟨k, hkc⟩ : Fin cnt) ∈ st.1 then 1 else 0) := by
              rw [nat (by omega)]
              exact hs3.2.2.2.2.1 ⟨k, hkc⟩
            have c211 := ct_211 G L3 T hw hfr (hTM F3) (h14 F3) ho hs3.2.2.2.2.1 ⟨k, hkc⟩
            have r143 : ∀ (h4 : mj_H), aptP T o st.1 ⟨k, hkc⟩ → FrM iGn jF sGn h h4 → isMs st h4 → Run 143 (l210 (jI (bI b)) (jI k) x3 x4 x5 x6 x7) [] h4 (0, 0) := by
              intro h4 hap4 F4 hs4
              refine hR 60 81 _ _ _ _ _ _ rfl ?_
              exact r145 (some ⟨k, hkc⟩) _ h4 _ _ _ _ _ (bstS_yes T o st.1 hkc ⟨hbst, hap4⟩).symm F4 hs4 rfl
            refine hR 60 72 _ _ _ _ _ _ rfl ?_
            refine ⟨L3.K 1412 rfl, _, L3.R 1412 11 _ rfl, L3.K 1419 rfl, vin 4096 (L3.N 1418 rfl) (by omega) (by omega), ?_⟩
            rw [e19]
            by_cases hin : (⟨k, hkc⟩ : Fin cnt) ∈ st.1
            · rw [if_pos hin]
              refine ⟨fun c => absurd c (by decide), fun c => ?_⟩
              exact no (fun z => ((hap _).2 z.2).1 hin) h3 _ _ _ _ _ F3 hs3
            · rw [if_neg hin]
              refine ⟨fun c => ⟨L3.K 1412 rfl, jcallP c211 ?_⟩, fun c => absurd rfl c⟩
              rintro oc h4 ⟨⟨v, rfl, hv⟩, F4⟩
              have F14 := F3.trans (up F4)
              have hs4 := hs3.M F4 ⟨fun z => z, fun z => z⟩ (fun _ _ z => z)
              rcases hv with ⟨rfl, hv⟩ | ⟨rfl, hv⟩
              · exact ⟨fun c => absurd c (by decide), fun c => r143 h4 ((hap _).1 ⟨hin, hv⟩) F14 hs4⟩
              · exact ⟨fun c => no (fun z => hv ((hap _).2 z.2).2) h4 _ _ _ _ _ F14 hs4, fun c => absurd rfl c⟩
          have r107 : Run 107 (l210 (jI (bI b)) (jI k) x3 x4 x5 x6 x7) [] h3 (0, 0) := by
            have ek : hI h3 1417 (jI (k : Int)).toNatClampNeg = jI (o ⟨k, hkc⟩) := by
              rw [nat (by omega)]
              exact (hGM F3).2 ⟨k, hkc⟩
            have hok' := (ho ⟨k, hkc⟩).2
            refine hR 60 61 _ _ _ _ _ _ rfl ?_
            cases hbb : b with
            | none =>
              rw [hbb] at r126 no
              refine ⟨fun c => r126 (fun b' h9 => ?_), fun c => absurd (show jI (-1) < 0 by decide) c⟩
              rw [← hb, hbb] at h9
              cases h9
            | some bb =>
              rw [hbb] at r126 no
              have hbl := bb.isLt
              have ob := (ho bb).2
              have eb : hI h3 1417 (jI (bb.val : Int)).toNatClampNeg = jI (o bb) := by
                rw [nat (by omega)]
                exact (hGM F3).2 bb
              refine ⟨fun c => ?_, fun c => ⟨L3.K 1412 rfl, _, L3.R 1412 9 _ rfl, Or.inl (L3.K 1417 rfl), vin 4096 (L3.N 1416 rfl) (by omega) (by omega), L3.K 1412 rfl, _, L3.R 1412 9 _ rfl, Or.inl (L3.K 1417 rfl), vin (k := bb.val) 4096 (L3.N 1416 rfl) (by omega) (by omega), fun c2 => ?_, fun c2 => ?_⟩⟩
              · exfalso
                have c' : jI (bb.val : Int) < 0 := c
                rw [jI_lt0 (by omega) (by omega)] at c'
                omega
              · have c3 : hI h3 1417 (jI (k : Int)).toNatClampNeg ≤ hI h3 1417 (jI (bb.val : Int)).toNatClampNeg := c2
                rw [ek, eb, jI_le (by omega) (by omega) (by omega) (by omega)] at c3
                refine no (fun z => ?_) h3 _ _ _ _ _ F3 hs3
                have := z.1 bb (by rw [← hb, hbb])
                omega
              · have c3 : ¬ hI h3 1417 (jI (k : Int)).toNatClampNeg ≤ hI h3 1417 (jI (bb.val : Int)).toNatClampNeg := c2
                rw [ek, eb, jI_le (by omega) (by omega) (by omega) (by omega)] at c3
                refine r126 (fun b' h9 => ?_)
                rw [← hb, hbb] at h9
                rw [← Option.some.inj h9]
                omega
          refine hR 60 57 _ _ _ _ _ _ rfl ?_
          refine ⟨L3.K 1412 rfl, fun c => ?_, fun c => r107⟩
          rw [h7 F3] at c
          simp (disch := omega) only [mj_lcm, jI_lt, jI_le, jI_eq, jL_lt, jL_le, jL_eq, jI_lt0, jI_0le, jI_0lt, jI_le0, jI_eq0, jL_eq0, jI_L, jI_add, jI_sub, jI_mul, jI_neg, jL_add, jL_sub, jL_mul, jL_neg, jL_I, jI_div, jI_mod, jL_div, jL_mod] at c
          omega
      have L' := F.lay L
      refine hR 60 48 _ _ _ _ _ _ rfl ?_
      refine ⟨L'.K 1412 rfl, L'.K 1412 rfl, fun c => ?_, fun c => ?_⟩
      · rw [h7 F, hs.2.1] at c
        simp (disch := omega) only [mj_lcm, jI_lt, jI_le, jI_eq, jL_lt, jL_le, jL_eq, jI_lt0, jI_0le, jI_0lt, jI_le0, jI_eq0, jL_eq0, jI_L, jI_add, jI_sub, jI_mul, jI_neg, jL_add, jL_sub, jL_mul, jL_neg, jL_I, jI_div, jI_mod, jL_div, jL_mod] at c
        omega
      · exact r99 cnt 0 none _ _ h' _ _ _ _ _ (by omega) rfl F hs rfl rfl
  have r69 : ∀ (h' : mj_H) (x1 x2 x3 x4 x5 x6 x7 : Option Value), FrM iGn jF sGn h h' → hI h' 1412 15 = jI 0 → (∀ y : Fin cnt, hI h' 1419 y.val = jI (if y ∈ [oneC T] then 1 else 0)) → (∀ t, t < 8 → hI h' 1418 (8 * (oneC T).val + t) = jI 0) → Run 69 [some (.ref 1412), x1, x2, x3, x4, x5, x6, x7] [] h' (0, 0) := by
    intro h' x1 x2 x3 x4 x5 x6 x7 F g15 g19 g18
    have L' := F.lay L
    refine hR 60 39 _ _ _ _ _ _ rfl ?_
    refine ⟨L'.K 1412 rfl, L'.K 1412 rfl, _, L'.R 1412 13 _ rfl, L'.K 1412 rfl, L'.K 1420 rfl, vin (k := 0) 4096 (L'.N 1419 rfl) (by omega) (by omega), ?_⟩
    refine r84 f0 (st0 T) _ _ _ _ _ _ _ _ hok0 ?_ ((F.fI (by omega) _).aI (c := 1420) (by omega) (by decide) _ _) rfl
    refine ⟨g15, rfl, ⟨by show 1 ≤ 4096; omega, by show 0 ≤ 8; omega, hcnt⟩, ?_, g19, ?_, ?_⟩
    · intro i y hy
      cases i with
      | zero =>
        have h9 : some (oneC T) = some y := hy
        rw [← Option.some.inj h9]
        show hI (sI h' 1420 (jI 0).toNatClampNeg (hI h' 1412 14)) 1420 0 = _
        exact (sI_at _ _ _ _).trans (h14 F)
      | succ i => cases hy
    · intro y hy t ht
      have : y = oneC T := List.mem_singleton.1 hy
      rw [this]
      exact ⟨g18 t ht, by show 0 < 32768; omega⟩
    · intro i y hy
      cases hy
  have r42 : ∀ (m i : Nat) (iI : Int32) (h' : mj_H) (x2 x3 x4 x5 x6 x7 : Option Value), i + m = 8 → FrM iGn jF sGn h h' → hI h' 1412 15 = jI 0 → (∀ y : Fin cnt, hI h' 1419 y.val = jI (if y ∈ [oneC T] then 1 else 0)) → (∀ t, t < i → hI h' 1418 (8 * (oneC T).val + t) = jI 0) → iI = jI i → Run 42 [some (.ref 1412), some (.int iI), x2, x3, x4, x5, x6, x7] [] h' (0, 0) := by
    intro m
    induction m with
    | zero =>
      rintro i iI h' x2 x3 x4 x5 x6 x7 hi F g15 g19 g18 rfl
      refine hR 60 24 _ _ _ _ _ _ rfl ?_
      refine ⟨fun c => r69 h' _ _ _ _ _ _ _ F g15 g19 (fun t ht => g18 t (by omega)), fun c => ?_⟩
      simp (disch := omega) only [mj_lcm, jI_lt, jI_le, jI_eq, jL_lt, jL_le, jL_eq, jI_lt0, jI_0le, jI_0lt, jI_le0, jI_eq0, jL_eq0, jI_L, jI_add, jI_sub, jI_mul, jI_neg, jL_add, jL_sub, jL_mul, jL_neg, jL_I, jI_div, jI_mod, jL_div, jL_mod] at c
      omega
    | succ m ih =>
      rintro i iI h' x2 x3 x4 x5 x6 x7 hi F g15 g19 g18 rfl
      have L' := F.lay L
      have e8 : jI 8 * hI h' 1412 14 + jI (i : Int) = jI ((8 * (oneC T).val + i : Nat) : Int) := by
        rw [h14 F, jI_mul, jI_add]
        rfl
      have r48 : Run 48 [some (.ref 1412), some (.int (jI i)), x2, x3, x4, x5, x6, x7] [] h' (0, 0) := by
        refine hR 60 27 _ _ _ _ _ _ rfl ?_
        refine ⟨L'.K 1412 rfl, _, L'.R 1412 10 _ rfl, L'.K 1412 rfl, L'.K 1418 rfl, ?_, ?_⟩
        · rw [e8]
          exact vin 32768 (L'.N 1417 rfl) (by omega) (by omega)
        · rw [e8, nat (by omega)]
          refine ih (i + 1) _ _ _ _ _ _ _ _ (by omega) (F.aI (c := 1418) (by omega) (by decide) _ _) g15 g19 (fun t ht => ?_) (by rw [jI_add]; rfl)
          by_cases z : t = i
          · rw [z]
            exact sI_at _ _ _ _
          · exact (sI_k _ _ (by omega) _).trans (g18 t (by omega))
      refine hR 60 24 _ _ _ _ _ _ rfl ?_
      refine ⟨fun c => ?_, fun c => r48⟩
      simp (disch := omega) only [mj_lcm, jI_lt, jI_le, jI_eq, jL_lt, jL_le, jL_eq, jI_lt0, jI_0le, jI_0lt, jI_le0, jI_eq0, jL_eq0, jI_L, jI_add, jI_sub, jI_mul, jI_neg, jL_add, jL_sub, jL_mul, jL_neg, jL_I, jI_div, jI_mod, jL_div, jL_mod] at c
      omega
  have r7 : ∀ (m k : Nat) (kI : Int32) (h' : mj_H) (x2 x3 x4 x5 x6 x7 : Option Value), k + m = cnt → FrM iGn jF sGn h h' → hI h' 1412 15 = jI 0 → (∀ y : Fin cnt, y.val < k → hI h' 1419 y.val = jI (if y ∈ [oneC T] then 1 else 0)) → kI = jI k → Run 7 [some (.ref 1412), some (.int kI), x2, x3, x4, x5, x6, x7] [] h' (0, 0) := by
    intro m
    induction m with
    | zero =>
      rintro k kI h' x2 x3 x4 x5 x6 x7 hk F g15 g19 rfl
      have r40 : ∀ x1 : Option Value, Run 40 [some (.ref 1412), x1, x2, x3, x4, x5, x6, x7] [] h' (0, 0) := by
        intro x1
        refine hR 60 22 _ _ _ _ _ _ rfl ?_
        exact r42 8 0 _ h' _ _ _ _ _ _ (by omega) F g15 (fun y => g19 y (by have := y.isLt; omega)) (fun t ht => by omega) rfl
      refine hR 60 5 _ _ _ _ _ _ rfl ?_
      refine ⟨(F.lay L).K 1412 rfl, fun c => r40 _, fun c => ?_⟩
      rw [h7 F] at c
      simp (disch := omega) only [mj_lcm, jI_lt, jI_le, jI_eq, jL_lt, jL_le, jL_eq, jI_lt0, jI_0le, jI_0lt, jI_le0, jI_eq0, jL_eq0, jI_L, jI_add, jI_sub, jI_mul, jI_neg, jL_add, jL_sub, jL_mul, jL_neg, jL_I, jI_div, jI_mod, jL_div, jL_mod] at c
      omega
    | succ m ih =>
      rintro k kI h' x2 x3 x4 x5 x6 x7 hk F g15 g19 rfl
      have L' := F.lay L
      have r34 : ∀ (h3 : mj_H), FrM iGn jF sGn h h3 → hI h3 1412 15 = jI 0 → (∀ y : Fin cnt, y.val < k + 1 → hI h3 1419 y.val = jI (if y ∈ [oneC T] then 1 else 0)) → Run 34 [some (.ref 1412), some (.int (jI k)), x2, x3, x4, x5, x6, x7] [] h3 (0, 0) := by
        intro h3 F3 k15 k19
        refine hR 60 20 _ _ _ _ _ _ rfl ?_
        exact ih (k + 1) _ h3 _ _ _ _ _ _ (by omega) F3 k15 k19 (by rw [jI_add]; rfl)
      have put : ∀ v : Int32, v = jI (if k = (oneC T).val then 1 else 0) → Run 34 [some (.ref 1412), some (.int (jI k)), x2, x3, x4, x5, x6, x7] [] (sI h' 1419 (jI (k : Int)).toNatClampNeg v) (0, 0) := by
        rintro v rfl
        rw [nat (by omega)]
        refine r34 _ (F.aI (c := 1419) (by omega) (by decide) _ _) g15 (fun y hy => ?_)
        by_cases z : y.val = k
        · rw [z]
          refine (sI_at _ _ _ _).trans ?_
          congr 2
          refine propext ⟨fun q => List.mem_singleton.2 (Fin.ext (by omega)), fun q => ?_⟩
          rw [← z, List.mem_singleton.1 q]
        · exact (sI_k _ _ z _).trans (g19 y (by omega))
      have r15 : Run 15 [some (.ref 1412), some (.int (jI k)), x2, x3, x4, x5, x6, x7] [] h' (0, 0) := by
        refine hR 60 9 _ _ _ _ _ _ rfl ?_
        refine ⟨L'.K 1412 rfl, _, L'.R 1412 11 _ rfl, L'.K 1412 rfl, fun c => ⟨L'.K 1419 rfl, vin 4096 (L'.N 1418 rfl) (by omega) (by omega), put _ ?_⟩, fun c => ⟨L'.K 1419 rfl, vin 4096 (L'.N 1418 rfl) (by omega) (by omega), put _ ?_⟩⟩
        · rw [h14 F, jI_eq (by omega) (by omega) (by omega) (by omega)] at c
          rw [if_pos (by omega)]
          rfl
        · rw [h14 F, jI_eq (by omega) (by omega) (by omega) (by omega)] at c
          rw [if_neg (by omega)]
          rfl
      refine hR 60 5 _ _ _ _ _ _ rfl ?_
      refine ⟨L'.K 1412 rfl, fun c => ?_, fun c => r15⟩
      rw [h7 F] at c
      simp (disch := omega) only [mj_lcm, jI_lt, jI_le, jI_eq, jL_lt, jL_le, jL_eq, jI_lt0, jI_0le, jI_0lt, jI_le0, jI_eq0, jL_eq0, jI_L, jI_add, jI_sub, jI_mul, jI_neg, jL_add, jL_sub, jL_mul, jL_neg, jL_I, jI_div, jI_mod, jL_div, jL_mod] at c
      omega
  refine hR 60 0 _ _ _ _ _ _ rfl ?_
  refine ⟨L.K 1412 rfl, ?_⟩
  exact r7 cnt 0 _ _ _ _ _ _ _ _ (by omega) ((FrM.refl _ _ _ h).fI (by omega) _) (sI_at _ _ _ _) (fun y hy => by omega) rfl
end
