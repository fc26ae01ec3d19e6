/-! contracts: numbers of the units -/
theorem isLay.fr {h h' : mj_H} (L : isLay h) (e : h'.2 = h.2) : isLay h' := L.F (S := fun _ => True) (T := noT) ⟨by rw [e], fun _ z => absurd trivial z, fun a _ => by rw [e]⟩ (fun _ z => z.elim)
theorem isLay.num {h : mj_H} (L : isLay h) (i : Nat) (hi : i < 8) : vp_in (jI i) (hN h 29) ∧ hR h 29 (jI i).toNatClampNeg = some (30 + 2 * i) := by
  refine ⟨?_, ?_⟩
  · rw [show hN h 29 = 8 from L.N 28 rfl]
    exact jI_in (by omega) (by omega) (by omega)
  · rw [jI_nat (by omega) (by omega), Int.toNat_natCast]
    have : ∀ i, i < 8 → lyRf 29 i = some (30 + 2 * i) := by decide
    exact L.R 29 i _ (this i hi)
theorem isLay.numW {h : mj_H} (L : isLay h) (i : Nat) (hi : i < 8) : isW0 h (30 + 2 * i) := by
  have : ∀ i, i < 8 → wOk (30 + 2 * i) = true := by decide
  exact L.W _ (this i hi)
/-- FormHouse$Units.copy(LFormHouse$Whole;I)V; cuts at [] -/
def cd_50 : List mj_E := [(0, false, .aload_n 0, 1, 0, 0, 0, 0, 0),
  (1, false, .getfield 55, 3, 1, 8, 2, 0, 0),
  (4, false, .iload_n 2, 1, 0, 0, 0, 0, 0),
  (5, false, .aaload, 1, 0, 0, 0, 0, 0),
  (6, false, .aload_n 1, 1, 0, 0, 0, 0, 0),
  (7, false, .getfield 147, 3, 5, 0, 2, 0, 0),
  (10, false, .aload_n 1, 1, 0, 0, 0, 0, 0),
  (11, false, .getfield 151, 3, 5, 1, 0, 0, 0),
  (14, false, .iconst 1, 1, 0, 0, 0, jI 1, 0),
  (15, false, .invokevirtual 154, 3, 39, 3, 5, 0, 0),
  (18, false, .return_, 1, 0, 0, 0, 0, 0)]
def cx_50 : mj_X := (0, [], [])
theorem tb_50 : mj_tab (mj_mt 50) cx_50 cd_50 mj_mh [(0, 0, 0), (1199, 0, 0), (0, 0, 0), (0, 0, 0), (0, 0, 0), (1099, 0, 0), (0, 0, 0), (1105, 0, 0), (0, 0, 0), (3233, 0, 0), (0, 0, 0)] = true := mj_tab_f (by decide +kernel)
theorem ct_50 (G : mj_G) {h : mj_H} (L : isLay h) {x i : Nat} {v : Int} (hx : isW h x v) (hi : i < 8) (hne : x ≠ 30 + 2 * i) : mj_Ct G (mj_mt 50) 0 0 [.ref 2, .ref x, .int (jI i)] h (fun o h' => o = .returned none ∧ isW h' (30 + 2 * i) v.natAbs ∧ FrI [30 + 2 * i, 30 + 2 * i + 1] h h') := by
  obtain ⟨x0, n, x1, x2, x3, x4, x5⟩ := hx
  obtain ⟨l1, l2⟩ := L.num i hi
  have wi := L.numW i hi
  refine mj_Ct_of mj_ok tb_50 rfl rfl (Nat.le_of_ble_eq_true rfl) (fun Run hR => ?_)
  refine hR 30 0 _ _ _ _ _ _ rfl ?_
  refine ⟨L.K 2 rfl, _, L.R 2 8 _ rfl, Or.inl (L.K 29 rfl), l1, _, l2, x0.1, _, x0.2.1, x0.1, ?_⟩
  rw [x2]
  refine ⟨wi.1, jcallP (ct_39 G wi x0.2.2.1 (by omega) (n := n) x1 (by rw [x0.2.2.2.1]; exact x1) (s := 1) (Or.inl rfl) (by rw [← x4]; exact x5)) ?_⟩
  rintro o h2 ⟨rfl, q1, q2⟩
  refine ⟨rfl, ?_, q2⟩
  rw [Int.one_mul, ← x4] at q1
  exact q1
/-- the words, length and sign of one number are laid into another one -/
theorem ct_39' (G : mj_G) {h : mj_H} {w x : Nat} {v : Int} (hw : isW0 h w) (hx : isW h x v) (hne : x ≠ w) : ∃ n : Nat, hI h x 1 = jI n ∧ hI h x 2 = jI v.sign ∧ hR h x 0 = some (x + 1) ∧ hK h x = 15 ∧ mj_Ct G (mj_mt 39) 0 0 [.ref w, .ref (x + 1), .int (hI h x 1), .int (hI h x 2)] h (fun o h' => o = .returned none ∧ isW h' w v ∧ FrI [w, w + 1] h h') := by
  obtain ⟨x0, n, x1, x2, x3, x4, x5⟩ := hx
  refine ⟨n, x2, x3, x0.2.1, x0.1, ?_⟩
  rw [x2, x3]
  have hsm : v.sign * ((mag (h.1 (x + 1)) n : Nat) : Int) = v := by
    rw [← x4]
    exact Int.sign_mul_natAbs v
  have := ct_39 G hw x0.2.2.1 (by omega) (n := n) x1 (by rw [x0.2.2.2.1]; exact x1) (s := v.sign) (by
    rcases Int.sign_trichotomy v with z | z | z
    · exact Or.inl z
    · refine Or.inr (Or.inr ?_)
      rw [← x4, Int.sign_eq_zero_iff_zero.1 z]
      rfl
    · exact Or.inr (Or.inl z)) (by rw [← x4]; exact x5)
  rw [hsm] at this
  exact this
/-- FormHouse$Units.ask(JJJ)V; cuts at [85, 140, 195] -/
def cl_52_5 : List mj_E := (233, false, .invokevirtual 63, 3, 21, 1, 5, 0, 0) ::
  (236, false, .aload_n 0, 1, 0, 0, 0, 0, 0) ::
  (237, false, .getfield 12, 3, 1, 0, 2, 0, 0) ::
  (240, false, .aload_n 0, 1, 0, 0, 0, 0, 0) ::
  (241, false, .getfield 55, 3, 1, 8, 2, 0, 0) ::
  (244, false, .iconst 4, 1, 0, 0, 0, jI 4, 0) ::
  (245, false, .aaload, 1, 0, 0, 0, 0, 0) ::
  (246, false, .aload_n 0, 1, 0, 0, 0, 0, 0) ::
  (247, false, .getfield 55, 3, 1, 8, 2, 0, 0) ::
  (250, false, .iconst 1, 1, 0, 0, 0, jI 1, 0) ::
  (251, false, .aaload, 1, 0, 0, 0, 0, 0) ::
  (252, false, .aload_n 0, 1, 0, 0, 0, 0, 0) ::
  (253, false, .getfield 49, 3, 1, 6, 2, 0, 0) ::
  (256, false, .invokevirtual 141, 3, 31, 3, 2, 0, 0) ::
  (259, false, .return_, 1, 0, 0, 0, 0, 0) ::
  []
def cl_52_4 : List mj_E := (186, false, .getfield 45, 3, 1, 5, 2, 0, 0) ::
  (189, false, .getfield 114, 3, 5, 2, 0, 0, 0) ::
  (192, false, .invokevirtual 154, 3, 39, 3, 5, 0, 0) ::
  (195, true, .aload_n 0, 1, 0, 0, 0, 0, 0) ::
  (196, false, .getfield 49, 3, 1, 6, 2, 0, 0) ::
  (199, false, .lload 5, 2, 0, 0, 0, 0, 0) ::
  (201, false, .lneg, 1, 0, 0, 0, 0, 0) ::
  (202, false, .invokevirtual 63, 3, 21, 1, 5, 0, 0) ::
  (205, false, .aload_n 0, 1, 0, 0, 0, 0, 0) ::
  (206, false, .getfield 12, 3, 1, 0, 2, 0, 0) ::
  (209, false, .aload_n 0, 1, 0, 0, 0, 0, 0) ::
  (210, false, .getfield 55, 3, 1, 8, 2, 0, 0) ::
  (213, false, .iconst 3, 1, 0, 0, 0, jI 3, 0) ::
  (214, false, .aaload, 1, 0, 0, 0, 0, 0) ::
  (215, false, .aload_n 0, 1, 0, 0, 0, 0, 0) ::
  (216, false, .getfield 55, 3, 1, 8, 2, 0, 0) ::
  (219, false, .iconst 1, 1, 0, 0, 0, jI 1, 0) ::
  (220, false, .aaload, 1, 0, 0, 0, 0, 0) ::
  (221, false, .aload_n 0, 1, 0, 0, 0, 0, 0) ::
  (222, false, .getfield 49, 3, 1, 6, 2, 0, 0) ::
  (225, false, .invokevirtual 141, 3, 31, 3, 2, 0, 0) ::
  (228, false, .aload_n 0, 1, 0, 0, 0, 0, 0) ::
  (229, false, .getfield 49, 3, 1, 6, 2, 0, 0) ::
  (232, false, .lload_n 1, 1, 0, 0, 0, 0, 0) ::
  cl_52_5
def cl_52_3 : List mj_E := (140, true, .aload_n 0, 1, 0, 0, 0, 0, 0) ::
  (141, false, .getfield 12, 3, 1, 0, 2, 0, 0) ::
  (144, false, .aload_n 0, 1, 0, 0, 0, 0, 0) ::
  (145, false, .getfield 45, 3, 1, 5, 2, 0, 0) ::
  (148, false, .aload_n 0, 1, 0, 0, 0, 0, 0) ::
  (149, false, .getfield 52, 3, 1, 7, 2, 0, 0) ::
  (152, false, .aload_n 0, 1, 0, 0, 0, 0, 0) ::
  (153, false, .getfield 55, 3, 1, 8, 2, 0, 0) ::
  (156, false, .iconst 5, 1, 0, 0, 0, jI 5, 0) ::
  (157, false, .aaload, 1, 0, 0, 0, 0, 0) ::
  (158, false, .aload_n 0, 1, 0, 0, 0, 0, 0) ::
  (159, false, .getfield 49, 3, 1, 6, 2, 0, 0) ::
  (162, false, .invokevirtual 161, 3, 53, 4, 2, 0, 0) ::
  (165, false, .aload_n 0, 1, 0, 0, 0, 0, 0) ::
  (166, false, .getfield 55, 3, 1, 8, 2, 0, 0) ::
  (169, false, .iconst 5, 1, 0, 0, 0, jI 5, 0) ::
  (170, false, .aaload, 1, 0, 0, 0, 0, 0) ::
  (171, false, .aload_n 0, 1, 0, 0, 0, 0, 0) ::
  (172, false, .getfield 45, 3, 1, 5, 2, 0, 0) ::
  (175, false, .getfield 147, 3, 5, 0, 2, 0, 0) ::
  (178, false, .aload_n 0, 1, 0, 0, 0, 0, 0) ::
  (179, false, .getfield 45, 3, 1, 5, 2, 0, 0) ::
  (182, false, .getfield 151, 3, 5, 1, 0, 0, 0) ::
  (185, false, .aload_n 0, 1, 0, 0, 0, 0, 0) ::
  cl_52_4
def cl_52_2 : List mj_E := (90, false, .getfield 45, 3, 1, 5, 2, 0, 0) ::
  (93, false, .aload_n 0, 1, 0, 0, 0, 0, 0) ::
  (94, false, .getfield 52, 3, 1, 7, 2, 0, 0) ::
  (97, false, .aload_n 0, 1, 0, 0, 0, 0, 0) ::
  (98, false, .getfield 55, 3, 1, 8, 2, 0, 0) ::
  (101, false, .iconst 2, 1, 0, 0, 0, jI 2, 0) ::
  (102, false, .aaload, 1, 0, 0, 0, 0, 0) ::
  (103, false, .aload_n 0, 1, 0, 0, 0, 0, 0) ::
  (104, false, .getfield 49, 3, 1, 6, 2, 0, 0) ::
  (107, false, .invokevirtual 161, 3, 53, 4, 2, 0, 0) ::
  (110, false, .aload_n 0, 1, 0, 0, 0, 0, 0) ::
  (111, false, .getfield 55, 3, 1, 8, 2, 0, 0) ::
  (114, false, .iconst 2, 1, 0, 0, 0, jI 2, 0) ::
  (115, false, .aaload, 1, 0, 0, 0, 0, 0) ::
  (116, false, .aload_n 0, 1, 0, 0, 0, 0, 0) ::
  (117, false, .getfield 45, 3, 1, 5, 2, 0, 0) ::
  (120, false, .getfield 147, 3, 5, 0, 2, 0, 0) ::
  (123, false, .aload_n 0, 1, 0, 0, 0, 0, 0) ::
  (124, false, .getfield 45, 3, 1, 5, 2, 0, 0) ::
  (127, false, .getfield 151, 3, 5, 1, 0, 0, 0) ::
  (130, false, .aload_n 0, 1, 0, 0, 0, 0, 0) ::
  (131, false, .getfield 45, 3, 1, 5, 2, 0, 0) ::
  (134, false, .getfield 114, 3, 5, 2, 0, 0, 0) ::
  (137, false, .invokevirtual 154, 3, 39, 3, 5, 0, 0) ::
  cl_52_3
def cl_52_1 : List mj_E := (44, false, .aaload, 1, 0, 0, 0, 0, 0) ::
  (45, false, .aload_n 0, 1, 0, 0, 0, 0, 0) ::
  (46, false, .getfield 45, 3, 1, 5, 2, 0, 0) ::
  (49, false, .invokevirtual 158, 3, 40, 3, 2, 0, 0) ::
  (52, false, .aload_n 0, 1, 0, 0, 0, 0, 0) ::
  (53, false, .getfield 12, 3, 1, 0, 2, 0, 0) ::
  (56, false, .aload_n 0, 1, 0, 0, 0, 0, 0) ::
  (57, false, .getfield 55, 3, 1, 8, 2, 0, 0) ::
  (60, false, .iconst 5, 1, 0, 0, 0, jI 5, 0) ::
  (61, false, .aaload, 1, 0, 0, 0, 0, 0) ::
  (62, false, .aload_n 0, 1, 0, 0, 0, 0, 0) ::
  (63, false, .getfield 55, 3, 1, 8, 2, 0, 0) ::
  (66, false, .iconst 0, 1, 0, 0, 0, jI 0, 0) ::
  (67, false, .aaload, 1, 0, 0, 0, 0, 0) ::
  (68, false, .aload_n 0, 1, 0, 0, 0, 0, 0) ::
  (69, false, .getfield 45, 3, 1, 5, 2, 0, 0) ::
  (72, false, .invokevirtual 130, 3, 49, 3, 2, 0, 0) ::
  (75, false, .aload_n 0, 1, 0, 0, 0, 0, 0) ::
  (76, false, .getfield 49, 3, 1, 6, 2, 0, 0) ::
  (79, false, .ldc2_w 74, 3, 0, 0, 0, 0, jL 2) ::
  (82, false, .invokevirtual 63, 3, 21, 1, 5, 0, 0) ::
  (85, true, .aload_n 0, 1, 0, 0, 0, 0, 0) ::
  (86, false, .getfield 12, 3, 1, 0, 2, 0, 0) ::
  (89, false, .aload_n 0, 1, 0, 0, 0, 0, 0) ::
  cl_52_2
def cl_52_0 : List mj_E := (0, false, .aload_n 0, 1, 0, 0, 0, 0, 0) ::
  (1, false, .getfield 49, 3, 1, 6, 2, 0, 0) ::
  (4, false, .lload_n 3, 1, 0, 0, 0, 0, 0) ::
  (5, false, .invokevirtual 63, 3, 21, 1, 5, 0, 0) ::
  (8, false, .aload_n 0, 1, 0, 0, 0, 0, 0) ::
  (9, false, .getfield 12, 3, 1, 0, 2, 0, 0) ::
  (12, false, .aload_n 0, 1, 0, 0, 0, 0, 0) ::
  (13, false, .getfield 45, 3, 1, 5, 2, 0, 0) ::
  (16, false, .aload_n 0, 1, 0, 0, 0, 0, 0) ::
  (17, false, .getfield 55, 3, 1, 8, 2, 0, 0) ::
  (20, false, .iconst 1, 1, 0, 0, 0, jI 1, 0) ::
  (21, false, .aaload, 1, 0, 0, 0, 0, 0) ::
  (22, false, .aload_n 0, 1, 0, 0, 0, 0, 0) ::
  (23, false, .getfield 49, 3, 1, 6, 2, 0, 0) ::
  (26, false, .invokevirtual 141, 3, 31, 3, 2, 0, 0) ::
  (29, false, .aload_n 0, 1, 0, 0, 0, 0, 0) ::
  (30, false, .getfield 12, 3, 1, 0, 2, 0, 0) ::
  (33, false, .aload_n 0, 1, 0, 0, 0, 0, 0) ::
  (34, false, .getfield 55, 3, 1, 8, 2, 0, 0) ::
  (37, false, .iconst 2, 1, 0, 0, 0, jI 2, 0) ::
  (38, false, .aaload, 1, 0, 0, 0, 0, 0) ::
  (39, false, .aload_n 0, 1, 0, 0, 0, 0, 0) ::
  (40, false, .getfield 55, 3, 1, 8, 2, 0, 0) ::
  (43, false, .iconst 0, 1, 0, 0, 0, jI 0, 0) ::
  cl_52_1
def cd_52 : List mj_E := cl_52_0
def cx_52 : mj_X := (0, [], [])
theorem tb_52 : mj_tab (mj_mt 52) cx_52 cd_52 mj_mh [(0, 0, 0), (1197, 0, 0), (0, 0, 0), (3059, 0, 0), (0, 0, 0), (1189, 0, 0), (0, 0, 0), (1196, 0, 0), (0, 0, 0), (1199, 0, 0), (0, 0, 0), (0, 0, 0), (0, 0, 0), (1197, 0, 0), (3224, 0, 0), (0, 0, 0), (1189, 0, 0), (0, 0, 0), (1199, 0, 0), (0, 0, 0), (0, 0, 0), (0, 0, 0), (1199, 0, 0), (0, 0, 0), (0, 0, 0), (0, 0, 0), (1196, 0, 0), (4002, 0, 0), (0, 0, 0), (1189, 0, 0), (0, 0, 0), (1199, 0, 0), (0, 0, 0), (0, 0, 0), (0, 0, 0), (1199, 0, 0), (0, 0, 0), (0, 0, 0), (0, 0, 0), (1196, 0, 0), (3225, 0, 0), (0, 0, 0), (1197, 0, 0), (3068, 0, 0), (3059, 0, 0), (0, 0, 0), (1189, 0, 0), (0, 0, 0), (1196, 0, 0), (0, 0, 0), (1198, 0, 0), (0, 0, 0), (1199, 0, 0), (0, 0, 0), (0, 0, 0), (0, 0, 0), (1197, 0, 0), (4003, 0, 0), (0, 0, 0), (1199, 0, 0), (0, 0, 0), (0, 0, 0), (0, 0, 0), (1196, 0, 0), (1099, 0, 0), (0, 0, 0), (1196, 0, 0), (1105, 0, 0), (0, 0, 0), (1196, 0, 0), (1109, 0, 0), (3233, 0, 0), (0, 0, 0), (1189, 0, 0), (0, 0, 0), (1196, 0, 0), (0, 0, 0), (1198, 0, 0), (0, 0, 0), (1199, 0, 0), (0, 0, 0), (0, 0, 0), (0, 0, 0), (1197, 0, 0), (4003, 0, 0), (0, 0, 0), (1199, 0, 0), (0, 0, 0), (0, 0, 0), (0, 0, 0), (1196, 0, 0), (1099, 0, 0), (0, 0, 0), (1196, 0, 0), (1105, 0, 0), (0, 0, 0), (1196, 0, 0), (1109, 0, 0), (3233, 0, 0), (0, 0, 0), (1197, 0, 0), (0, 0, 0), (0, 0, 0), (3059, 0, 0), (0, 0, 0), (1189, 0, 0), (0, 0, 0), (1199, 0, 0), (0, 0, 0), (0, 0, 0), (0, 0, 0), (1199, 0, 0), (0, 0, 0), (0, 0, 0), (0, 0, 0), (1197, 0, 0), (3224, 0, 0), (0, 0, 0), (1197, 0, 0), (0, 0, 0), (3059, 0, 0), (0, 0, 0), (1189, 0, 0), (0, 0, 0), (1199, 0, 0), (0, 0, 0), (0, 0, 0), (0, 0, 0), (1199, 0, 0), (0, 0, 0), (0, 0, 0), (0, 0, 0), (1197, 0, 0), (3224, 0, 0), (0, 0, 0)] = true := mj_tab_f (by decide +kernel)
theorem ct_52 (G : mj_G) {h : mj_H} (L : isLay h) {t u a b c : Int} (h0 : isW h 30 t) (h1 : isW h 32 u) (ha : -4611686018427387904 < a ∧ a < 4611686018427387904) (hb : -4611686018427387904 < b ∧ b < 4611686018427387904) (hc : -4611686018427387904 < c ∧ c < 4611686018427387904) (b1 : t.natAbs + (u * b).natAbs < 4294967296 ^ 1024) (b2 : (u * a).natAbs < 4294967296 ^ 1024) (b3 : (u * -c).natAbs < 4294967296 ^ 1024) : mj_Ct G (mj_mt 52) 0 0 [.ref 2, .long (jL a), .long (jL b), .long (jL c)] h (fun o h' => o = .returned none ∧ isW h' 34 ((t - u * b).tdiv 2) ∧ isW h' 36 (u * -c) ∧ isW h' 38 (u * a) ∧ isW h' 40 ((t + u * b).tdiv 2) ∧ FrI [3, 4, 5, 6, 23, 24, 25, 26, 27, 28, 34, 35, 36, 37, 38, 39, 40, 41] h h') := by
  refine mj_Ct_of mj_ok tb_52 rfl rfl (Nat.le_of_ble_eq_true rfl) (fun Run hR => ?_)
  have r195 : ∀ (h' : mj_H), FrI [3, 4, 5, 6, 23, 24, 25, 26, 27, 28, 34, 35, 40, 41] h h' → isW h' 34 ((t - u * b).tdiv 2) → isW h' 40 ((t + u * b).tdiv 2) → Run 195 [some (.ref 2), some (.long (jL a)), none, some (.long (jL b)), none, some (.long (jL c)), none] [] h' (0, 0) := by
    intro h' F v34 v40
    have L0 := L.fr F.1
    have u0 := h1.fr F (by first | (simp; done) | (simp; omega) | omega) (by first | (simp; done) | (simp; omega) | omega)
    refine hR 60 99 _ _ _ _ _ _ rfl ?_
    have c21 := ct_21 G (L0.W 25 rfl) (v := -c) (by omega) (by omega)
    rw [← jL_neg] at c21
    refine ⟨L0.K 2 rfl, _, L0.R 2 6 _ rfl, (L0.W 25 rfl).1, jcallP c21 ?_⟩
    rintro o g1 ⟨rfl, t1, f1⟩
    have L1 := L0.fr f1.1
    refine ⟨L1.K 2 rfl, _, L1.R 2 0 _ rfl, L1.K 2 rfl, _, L1.R 2 8 _ rfl, Or.inl (L1.K 29 rfl), (L1.num 3 (by decide)).1, _, (L1.num 3 (by decide)).2, L1.K 2 rfl, _, L1.R 2 8 _ rfl, Or.inl (L1.K 29 rfl), (L1.num 1 (by decide)).1, _, (L1.num 1 (by decide)).2, L1.K 2 rfl, _, L1.R 2 6 _ rfl, L1.K 3 rfl, jcallP (ct_31 G (t := 36) (a := 32) (b := 25) L1.Rk (L1.W 36 rfl) (u0.fr f1 (by first | (simp; done) | (simp; omega) | omega) (by first | (simp; done) | (simp; omega) | omega)) t1 (by rw [← Int.natAbs_mul]; exact b3)) ?_⟩
    rintro o g2 ⟨rfl, v36, f2⟩
    have L2 := L1.fr f2.1
    refine ⟨L2.K 2 rfl, _, L2.R 2 6 _ rfl, (L2.W 25 rfl).1, jcallP (ct_21 G (L2.W 25 rfl) (v := a) (by omega) (by omega)) ?_⟩
    rintro o g3 ⟨rfl, t3, f3⟩
    have L3 := L2.fr f3.1
    refine ⟨L3.K 2 rfl, _, L3.R 2 0 _ rfl, L3.K 2 rfl, _, L3.R 2 8 _ rfl, Or.inl (L3.K 29 rfl), (L3.num 4 (by decide)).1, _, (L3.num 4 (by decide)).2, L3.K 2 rfl, _, L3.R 2 8 _ rfl, Or.inl (L3.K 29 rfl), (L3.num 1 (by decide)).1, _, (L3.num 1 (by decide)).2, L3.K 2 rfl, _, L3.R 2 6 _ rfl, L3.K 3 rfl, jcallP (ct_31 G (t := 38) (a := 32) (b := 25) L3.Rk (L3.W 38 rfl) (((u0.fr f1 (by first | (simp; done) | (simp; omega) | omega) (by first | (simp; done) | (simp; omega) | omega)).fr f2 (by first | (simp; done) | (simp; omega) | omega) (by first | (simp; done) | (simp; omega) | omega)).fr f3 (by first | (simp; done) | (simp; omega) | omega) (by first | (simp; done) | (simp; omega) | omega)) t3 (by rw [← Int.natAbs_mul]; exact b2)) ?_⟩
    rintro o g4 ⟨rfl, v38, f4⟩
    refine ⟨rfl, ?_, ?_, v38, ?_, ?_⟩
    · exact (((v34.fr f1 (by first | (simp; done) | (simp; omega) | omega) (by first | (simp; done) | (simp; omega) | omega)).fr f2 (by first | (simp; done) | (simp; omega) | omega) (by first | (simp; done) | (simp; omega) | omega)).fr f3 (by first | (simp; done) | (simp; omega) | omega) (by first | (simp; done) | (simp; omega) | omega)).fr f4 (by first | (simp; done) | (simp; omega) | omega) (by first | (simp; done) | (simp; omega) | omega)
    · exact (v36.fr f3 (by first | (simp; done) | (simp; omega) | omega) (by first | (simp; done) | (simp; omega) | omega)).fr f4 (by first | (simp; done) | (simp; omega) | omega) (by first | (simp; done) | (simp; omega) | omega)
    · exact (((v40.fr f1 (by first | (simp; done) | (simp; omega) | omega) (by first | (simp; done) | (simp; omega) | omega)).fr f2 (by first | (simp; done) | (simp; omega) | omega) (by first | (simp; done) | (simp; omega) | omega)).fr f3 (by first | (simp; done) | (simp; omega) | omega) (by first | (simp; done) | (simp; omega) | omega)).fr f4 (by first | (simp; done) | (simp; omega) | omega) (by first | (simp; done) | (simp; omega) | omega)
    · exact ((((F.trans f1).trans f2).trans f3).trans f4).mono (by simp)
  have r140 : ∀ (h' : mj_H), FrI [3, 4, 5, 6, 23, 24, 25, 26, 27, 28, 34, 35, 40, 41] h h' → isW h' 34 ((t - u * b).tdiv 2) → isW h' 40 (t + u * b) → isW h' 25 2 → Run 140 [some (.ref 2), some (.long (jL a)), none, some (.long (jL b)), none, some (.long (jL c)), none] [] h' (0, 0) := by
    intro h' F v34 v40 v25
    have L0 := L.fr F.1
    refine hR 60 72 _ _ _ _ _ _ rfl ?_
    refine ⟨L0.K 2 rfl, _, L0.R 2 0 _ rfl, L0.K 2 rfl, _, L0.R 2 5 _ rfl, L0.K 2 rfl, _, L0.R 2 7 _ rfl, L0.K 2 rfl, _, L0.R 2 8 _ rfl, Or.inl (L0.K 29 rfl), (L0.num 5 (by decide)).1, _, (L0.num 5 (by decide)).2, L0.K 2 rfl, _, L0.R 2 6 _ rfl, L0.K 3 rfl, jcallP (ct_53 G (qd := 23) (rm := 27) (a := 40) (b := 25) L0.Rk (L0.W 23 rfl) (L0.W 27 rfl) v40 v25 (by decide) (by decide) (by decide)) ?_⟩
    rintro o g1 ⟨rfl, t1, f1⟩
    have L1 := L0.fr f1.1
    obtain ⟨n, e1, e2, e3, e4, c39⟩ := ct_39' G (w := 40) (x := 23) (L1.W 40 rfl) t1 (by decide)
    refine ⟨L1.K 2 rfl, _, L1.R 2 8 _ rfl, Or.inl (L1.K 29 rfl), (L1.num 5 (by decide)).1, _, (L1.num 5 (by decide)).2, L1.K 2 rfl, _, L1.R 2 5 _ rfl, e4, _, e3, L1.K 2 rfl, _, L1.R 2 5 _ rfl, e4, L1.K 2 rfl, _, L1.R 2 5 _ rfl, e4, (L1.W 40 rfl).1, jcallP c39 ?_⟩
    rintro o g2 ⟨rfl, t2, f2⟩
    exact r195 g2 (((F.trans f1).trans f2).mono (by simp)) ((v34.fr f1 (by first | (simp; done) | (simp; omega) | omega) (by first | (simp; done) | (simp; omega) | omega)).fr f2 (by first | (simp; done) | (simp; omega) | omega) (by first | (simp; done) | (simp; omega) | omega)) t2
  have r85 : ∀ (h' : mj_H), FrI [3, 4, 5, 6, 23, 24, 25, 26, 27, 28, 34, 35, 40, 41] h h' → isW h' 34 (t - u * b) → isW h' 40 (t + u * b) → isW h' 25 2 → Run 85 [some (.ref 2), some (.long (jL a)), none, some (.long (jL b)), none, some (.long (jL c)), none] [] h' (0, 0) := by
    intro h' F v34 v40 v25
    have L0 := L.fr F.1
    refine hR 60 45 _ _ _ _ _ _ rfl ?_
    refine ⟨L0.K 2 rfl, _, L0.R 2 0 _ rfl, L0.K 2 rfl, _, L0.R 2 5 _ rfl, L0.K 2 rfl, _, L0.R 2 7 _ rfl, L0.K 2 rfl, _, L0.R 2 8 _ rfl, Or.inl (L0.K 29 rfl), (L0.num 2 (by decide)).1, _, (L0.num 2 (by decide)).2, L0.K 2 rfl, _, L0.R 2 6 _ rfl, L0.K 3 rfl, jcallP (ct_53 G (qd := 23) (rm := 27) (a := 34) (b := 25) L0.Rk (L0.W 23 rfl) (L0.W 27 rfl) v34 v25 (by decide) (by decide) (by decide)) ?_⟩
    rintro o g1 ⟨rfl, t1, f1⟩
    have L1 := L0.fr f1.1
    obtain ⟨n, e1, e2, e3, e4, c39⟩ := ct_39' G (w := 34) (x := 23) (L1.W 34 rfl) t1 (by decide)
    refine ⟨L1.K 2 rfl, _, L1.R 2 8 _ rfl, Or.inl (L1.K 29 rfl), (L1.num 2 (by decide)).1, _, (L1.num 2 (by decide)).2, L1.K 2 rfl, _, L1.R 2 5 _ rfl, e4, _, e3, L1.K 2 rfl, _, L1.R 2 5 _ rfl, e4, L1.K 2 rfl, _, L1.R 2 5 _ rfl, e4, (L1.W 34 rfl).1, jcallP c39 ?_⟩
    rintro o g2 ⟨rfl, t2, f2⟩
    exact r140 g2 (((F.trans f1).trans f2).mono (by simp)) t2 ((v40.fr f1 (by first | (simp; done) | (simp; omega) | omega) (by first | (simp; done) | (simp; omega) | omega)).fr f2 (by first | (simp; done) | (simp; omega) | omega) (by first | (simp; done) | (simp; omega) | omega)) ((v25.fr f1 (by first | (simp; done) | (simp; omega) | omega) (by first | (simp; done) | (simp; omega) | omega)).fr f2 (by first | (simp; done) | (simp; omega) | omega) (by first | (simp; done) | (simp; omega) | omega))
  refine hR 60 0 _ _ _ _ _ _ rfl ?_
  refine ⟨L.K 2 rfl, _, L.R 2 6 _ rfl, (L.W 25 rfl).1, jcallP (ct_21 G (L.W 25 rfl) (v := b) (by omega) (by omega)) ?_⟩
  rintro o g1 ⟨rfl, t1, f1⟩
  have L1 := L.fr f1.1
  refine ⟨L1.K 2 rfl, _, L1.R 2 0 _ rfl, L1.K 2 rfl, _, L1.R 2 5 _ rfl, L1.K 2 rfl, _, L1.R 2 8 _ rfl, Or.inl (L1.K 29 rfl), (L1.num 1 (by decide)).1, _, (L1.num 1 (by decide)).2, L1.K 2 rfl, _, L1.R 2 6 _ rfl, L1.K 3 rfl, jcallP (ct_31 G (t := 23) (a := 32) (b := 25) L1.Rk (L1.W 23 rfl) (h1.fr f1 (by first | (simp; done) | (simp; omega) | omega) (by first | (simp; done) | (simp; omega) | omega)) t1 (by rw [← Int.natAbs_mul]; omega)) ?_⟩
  rintro o g2 ⟨rfl, v23, f2⟩
  have L2 := L1.fr f2.1
  have t02 := (h0.fr f1 (by first | (simp; done) | (simp; omega) | omega) (by first | (simp; done) | (simp; omega) | omega)).fr f2 (by first | (simp; done) | (simp; omega) | omega) (by first | (simp; done) | (simp; omega) | omega)
  refine ⟨L2.K 2 rfl, _, L2.R 2 0 _ rfl, L2.K 2 rfl, _, L2.R 2 8 _ rfl, Or.inl (L2.K 29 rfl), (L2.num 2 (by decide)).1, _, (L2.num 2 (by decide)).2, L2.K 2 rfl, _, L2.R 2 8 _ rfl, Or.inl (L2.K 29 rfl), (L2.num 0 (by decide)).1, _, (L2.num 0 (by decide)).2, L2.K 2 rfl, _, L2.R 2 5 _ rfl, L2.K 3 rfl, jcallP (ct_40 G (t := 34) (a := 30) (b := 23) L2.Rk (L2.W 34 rfl) t02 v23 b1) ?_⟩
  rintro o g3 ⟨rfl, v34, f3⟩
  have L3 := L2.fr f3.1
  refine ⟨L3.K 2 rfl, _, L3.R 2 0 _ rfl, L3.K 2 rfl, _, L3.R 2 8 _ rfl, Or.inl (L3.K 29 rfl), (L3.num 5 (by decide)).1, _, (L3.num 5 (by decide)).2, L3.K 2 rfl, _, L3.R 2 8 _ rfl, Or.inl (L3.K 29 rfl), (L3.num 0 (by decide)).1, _, (L3.num 0 (by decide)).2, L3.K 2 rfl, _, L3.R 2 5 _ rfl, L3.K 3 rfl, jcallP (ct_49 G (t := 40) (a := 30) (b := 23) L3.Rk (L3.W 40 rfl) (t02.fr f3 (by first | (simp; done) | (simp; omega) | omega) (by first | (simp; done) | (simp; omega) | omega)) (v23.fr f3 (by first | (simp; done) | (simp; omega) | omega) (by first | (simp; done) | (simp; omega) | omega)) b1) ?_⟩
  rintro o g4 ⟨rfl, v40, f4⟩
  have L4 := L3.fr f4.1
  refine ⟨L4.K 2 rfl, _, L4.R 2 6 _ rfl, (L4.W 25 rfl).1, jcallP (ct_21 G (L4.W 25 rfl) (v := 2) (by decide) (by decide)) ?_⟩
  rintro o g5 ⟨rfl, v25, f5⟩
  exact r85 g5 (((((f1.trans f2).trans f3).trans f4).trans f5).mono (by simp)) ((v34.fr f4 (by first | (simp; done) | (simp; omega) | omega) (by first | (simp; done) | (simp; omega) | omega)).fr f5 (by first | (simp; done) | (simp; omega) | omega) (by first | (simp; done) | (simp; omega) | omega)) (v40.fr f5 (by first | (simp; done) | (simp; omega) | omega) (by first | (simp; done) | (simp; omega) | omega)) v25
