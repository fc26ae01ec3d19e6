/-! contracts: one trial, and the trials that meet a form -/
abbrev Tr : Type := Int × Int × Int × Int × Int × Int
def frmO (d m b : Int) : Fm := (m, b, (b * b - d).tdiv (4 * m))
def itK (d w : Int) : Nat → Fm → Int × Int → Int × Int
  | 0, _, z => z
  | n + 1, f, z => itK d w n (nx d w f) (z.2, nkE d w f.2.1 f.2.2 * z.2 - z.1)
def rcT (d w g m b : Int) (n : Nat) : Tr := (g, b, (itF d w n (frmO d m b)).1, (itF d w n (frmO d m b)).2.1, (itK d w n (frmO d m b) (0, 1)).2, -(itK d w n (frmO d m b) (0, 1)).1)
/-- the trials lie in the heap -/
def isTr (h : mj_H) (T : List Tr) (M : Nat → Bool) (v : Nat) : Prop := hI h 69 3 = jI T.length ∧ T.length ≤ 8192 ∧ hI h 69 11 = jI v ∧ ∀ i t, T[i]? = some t → (hI h 78 i = jI t.1 ∧ hI h 79 i = jI t.2.1 ∧ hI h 84 i = jI (if M i then 1 else 0)) ∧ hJ h 80 i = jL t.2.2.1 ∧ hJ h 81 i = jL t.2.2.2.1 ∧ hJ h 82 i = jL t.2.2.2.2.1 ∧ hJ h 83 i = jL t.2.2.2.2.2
abbrev inTr (x : Nat) : Prop := x = 69 ∨ (77 ≤ x ∧ x ≤ 84)
theorem isTr.F {S T' : Nat → Prop} {h h' : mj_H} (f : Fr S T' h h') {T : List Tr} {M : Nat → Bool} {v : Nat} (a : isTr h T M v) (hs : ∀ x, x = 69 ∨ (78 ≤ x ∧ x ≤ 84) → ¬ S x) : isTr h' T M v := by
  obtain ⟨a1, a2, a3, a4⟩ := a
  refine ⟨(f.I (hs 69 (by omega)) _).trans a1, a2, (f.I (hs 69 (by omega)) _).trans a3, fun i t hi => ?_⟩
  obtain ⟨⟨b1, b2, b3⟩, b4, b5, b6, b7⟩ := a4 i t hi
  exact ⟨⟨(f.I (hs 78 (by omega)) _).trans b1, (f.I (hs 79 (by omega)) _).trans b2, (f.I (hs 84 (by omega)) _).trans b3⟩, (f.J (hs 80 (by omega)) _).trans b4, (f.J (hs 81 (by omega)) _).trans b5, (f.J (hs 82 (by omega)) _).trans b6, (f.J (hs 83 (by omega)) _).trans b7⟩
abbrev l157 (g : Int32) (m b p q r s : Int64) (x15 x16 x17 x18 : Option Value) : mj_Ls := [some (.ref 69), some (.int g), some (.long m), none, some (.long b), none, some (.ref 7), some (.long p), none, some (.long q), none, some (.long r), none, some (.long s), none, x15, x16, x17, x18]
/-- FormHouse$Trials.lead(IJJLFormHouse$Reducer;)V; cuts at [27, 40, 46, 52, 75, 89, 97, 107, 114] -/
def cl_157_4 : List mj_E := (179, false, .aload_n 0, 1, 0, 0, 0, 0, 0) ::
  (180, false, .getfield 49, 3, 12, 9, 2, 0, 0) ::
  (183, false, .aload_n 0, 1, 0, 0, 0, 0, 0) ::
  (184, false, .getfield 56, 3, 12, 3, 0, 0, 0) ::
  (187, false, .lload 11, 2, 0, 0, 0, 0, 0) ::
  (189, false, .lneg, 1, 0, 0, 0, 0, 0) ::
  (190, false, .lastore, 1, 0, 0, 0, 0, 0) ::
  (191, false, .aload_n 0, 1, 0, 0, 0, 0, 0) ::
  (192, false, .getfield 52, 3, 12, 10, 2, 0, 0) ::
  (195, false, .aload_n 0, 1, 0, 0, 0, 0, 0) ::
  (196, false, .getfield 56, 3, 12, 3, 0, 0, 0) ::
  (199, false, .iconst 0, 1, 0, 0, 0, jI 0, 0) ::
  (200, false, .bastore, 1, 0, 0, 0, 0, 0) ::
  (201, false, .aload_n 0, 1, 0, 0, 0, 0, 0) ::
  (202, false, .dup, 1, 0, 0, 0, 0, 0) ::
  (203, false, .getfield 56, 3, 12, 3, 0, 0, 0) ::
  (206, false, .iconst 1, 1, 0, 0, 0, jI 1, 0) ::
  (207, false, .iadd, 1, 0, 0, 0, 0, 0) ::
  (208, false, .putfield 56, 3, 12, 3, 0, 0, 0) ::
  (211, false, .return_, 1, 0, 0, 0, 0, 0) ::
  []
def cl_157_3 : List mj_E := (134, false, .l2i, 1, 0, 0, 0, 0, 0) ::
  (135, false, .iastore, 1, 0, 0, 0, 0, 0) ::
  (136, false, .aload_n 0, 1, 0, 0, 0, 0, 0) ::
  (137, false, .getfield 39, 3, 12, 6, 2, 0, 0) ::
  (140, false, .aload_n 0, 1, 0, 0, 0, 0, 0) ::
  (141, false, .getfield 56, 3, 12, 3, 0, 0, 0) ::
  (144, false, .aload_n 0, 1, 0, 0, 0, 0, 0) ::
  (145, false, .getfield 28, 3, 12, 2, 2, 0, 0) ::
  (148, false, .getfield 108, 3, 6, 0, 1, 0, 0) ::
  (151, false, .lastore, 1, 0, 0, 0, 0, 0) ::
  (152, false, .aload_n 0, 1, 0, 0, 0, 0, 0) ::
  (153, false, .getfield 43, 3, 12, 7, 2, 0, 0) ::
  (156, false, .aload_n 0, 1, 0, 0, 0, 0, 0) ::
  (157, false, .getfield 56, 3, 12, 3, 0, 0, 0) ::
  (160, false, .aload_n 0, 1, 0, 0, 0, 0, 0) ::
  (161, false, .getfield 28, 3, 12, 2, 2, 0, 0) ::
  (164, false, .getfield 111, 3, 6, 1, 1, 0, 0) ::
  (167, false, .lastore, 1, 0, 0, 0, 0, 0) ::
  (168, false, .aload_n 0, 1, 0, 0, 0, 0, 0) ::
  (169, false, .getfield 46, 3, 12, 8, 2, 0, 0) ::
  (172, false, .aload_n 0, 1, 0, 0, 0, 0, 0) ::
  (173, false, .getfield 56, 3, 12, 3, 0, 0, 0) ::
  (176, false, .lload 13, 2, 0, 0, 0, 0, 0) ::
  (178, false, .lastore, 1, 0, 0, 0, 0, 0) ::
  cl_157_4
def cl_157_2 : List mj_E := (89, true, .lload 17, 2, 0, 0, 0, 0, 0) ::
  (91, false, .lstore 7, 2, 0, 0, 0, 0, 0) ::
  (93, false, .lload 13, 2, 0, 0, 0, 0, 0) ::
  (95, false, .lstore 17, 2, 0, 0, 0, 0, 0) ::
  (97, true, .lload 15, 2, 0, 0, 0, 0, 0) ::
  (99, false, .lload 13, 2, 0, 0, 0, 0, 0) ::
  (101, false, .lmul, 1, 0, 0, 0, 0, 0) ::
  (102, false, .lload 11, 2, 0, 0, 0, 0, 0) ::
  (104, false, .lsub, 1, 0, 0, 0, 0, 0) ::
  (105, false, .lstore 13, 2, 0, 0, 0, 0, 0) ::
  (107, true, .lload 17, 2, 0, 0, 0, 0, 0) ::
  (109, false, .lstore 11, 2, 0, 0, 0, 0, 0) ::
  (111, false, .goto (-59), 3, 30, 0, 0, 0, 0) ::
  (114, true, .aload_n 0, 1, 0, 0, 0, 0, 0) ::
  (115, false, .getfield 32, 3, 12, 4, 2, 0, 0) ::
  (118, false, .aload_n 0, 1, 0, 0, 0, 0, 0) ::
  (119, false, .getfield 56, 3, 12, 3, 0, 0, 0) ::
  (122, false, .iload_n 1, 1, 0, 0, 0, 0, 0) ::
  (123, false, .iastore, 1, 0, 0, 0, 0, 0) ::
  (124, false, .aload_n 0, 1, 0, 0, 0, 0, 0) ::
  (125, false, .getfield 36, 3, 12, 5, 2, 0, 0) ::
  (128, false, .aload_n 0, 1, 0, 0, 0, 0, 0) ::
  (129, false, .getfield 56, 3, 12, 3, 0, 0, 0) ::
  (132, false, .lload 4, 2, 0, 0, 0, 0, 0) ::
  cl_157_3
def cl_157_1 : List mj_E := (43, false, .lconst 0, 1, 0, 0, 0, 0, jL 0) ::
  (44, false, .lstore 9, 2, 0, 0, 0, 0, 0) ::
  (46, true, .lconst 0, 1, 0, 0, 0, 0, jL 0) ::
  (47, false, .lstore 11, 2, 0, 0, 0, 0, 0) ::
  (49, false, .lconst 1, 1, 0, 0, 0, 0, jL 1) ::
  (50, false, .lstore 13, 2, 0, 0, 0, 0, 0) ::
  (52, true, .aload 6, 2, 0, 0, 0, 0, 0) ::
  (54, false, .aload_n 0, 1, 0, 0, 0, 0, 0) ::
  (55, false, .getfield 28, 3, 12, 2, 2, 0, 0) ::
  (58, false, .invokevirtual 100, 3, 66, 1, 3, 0, 0) ::
  (61, false, .ifCond .ne 53, 3, 61, 0, 0, 0, 0) ::
  (64, false, .aload 6, 2, 0, 0, 0, 0, 0) ::
  (66, false, .aload_n 0, 1, 0, 0, 0, 0, 0) ::
  (67, false, .getfield 28, 3, 12, 2, 2, 0, 0) ::
  (70, false, .invokevirtual 104, 3, 27, 1, 3, 0, 0) ::
  (73, false, .lstore 15, 2, 0, 0, 0, 0, 0) ::
  (75, true, .lload 9, 2, 0, 0, 0, 0, 0) ::
  (77, false, .lstore 17, 2, 0, 0, 0, 0, 0) ::
  (79, false, .lload 15, 2, 0, 0, 0, 0, 0) ::
  (81, false, .lload 9, 2, 0, 0, 0, 0, 0) ::
  (83, false, .lmul, 1, 0, 0, 0, 0, 0) ::
  (84, false, .lload 7, 2, 0, 0, 0, 0, 0) ::
  (86, false, .lsub, 1, 0, 0, 0, 0, 0) ::
  (87, false, .lstore 9, 2, 0, 0, 0, 0, 0) ::
  cl_157_2
def cl_157_0 : List mj_E := (0, false, .aload_n 0, 1, 0, 0, 0, 0, 0) ::
  (1, false, .getfield 28, 3, 12, 2, 2, 0, 0) ::
  (4, false, .lload_n 2, 1, 0, 0, 0, 0, 0) ::
  (5, false, .lload 4, 2, 0, 0, 0, 0, 0) ::
  (7, false, .lload 4, 2, 0, 0, 0, 0, 0) ::
  (9, false, .lload 4, 2, 0, 0, 0, 0, 0) ::
  (11, false, .lmul, 1, 0, 0, 0, 0, 0) ::
  (12, false, .aload 6, 2, 0, 0, 0, 0, 0) ::
  (14, false, .getfield 69, 3, 3, 0, 1, 0, 0) ::
  (17, false, .lsub, 1, 0, 0, 0, 0, 0) ::
  (18, false, .ldc2_w 90, 3, 0, 0, 0, 0, jL 4) ::
  (21, false, .lload_n 2, 1, 0, 0, 0, 0, 0) ::
  (22, false, .lmul, 1, 0, 0, 0, 0, 0) ::
  (23, false, .ldiv, 1, 0, 0, 0, 0, 0) ::
  (24, false, .invokevirtual 92, 3, 24, 3, 6, 0, 0) ::
  (27, true, .aload_n 0, 1, 0, 0, 0, 0, 0) ::
  (28, false, .getfield 28, 3, 12, 2, 2, 0, 0) ::
  (31, false, .invokevirtual 96, 3, 67, 0, 6, 0, 0) ::
  (34, false, .lconst 1, 1, 0, 0, 0, 0, jL 1) ::
  (35, false, .lcmp, 1, 0, 0, 0, 0, 0) ::
  (36, false, .ifCond .eq 4, 3, 22, 0, 0, 0, 0) ::
  (39, false, .return_, 1, 0, 0, 0, 0, 0) ::
  (40, true, .lconst 1, 1, 0, 0, 0, 0, jL 1) ::
  (41, false, .lstore 7, 2, 0, 0, 0, 0, 0) ::
  cl_157_1
def cd_157 : List mj_E := cl_157_0
def cx_157 : mj_X := (0, [], [])
theorem tb_157 : mj_tab (mj_mt 157) cx_157 cd_157 mj_mh [(0, 0, 0), (2193, 0, 0), (0, 0, 0), (0, 0, 0), (0, 0, 0), (0, 0, 0), (0, 0, 0), (0, 0, 0), (1072, 0, 0), (0, 0, 0), (6064, 0, 0), (0, 0, 0), (0, 0, 0), (0, 0, 0), (6065, 0, 0), (0, 0, 0), (2193, 0, 0), (6066, 0, 0), (0, 0, 0), (0, 0, 0), (0, 0, 0), (0, 0, 0), (0, 0, 0), (0, 0, 0), (0, 0, 0), (0, 0, 0), (0, 0, 0), (0, 0, 0), (0, 0, 0), (0, 0, 0), (0, 0, 0), (0, 0, 0), (2193, 0, 0), (6067, 0, 0), (0, 0, 0), (0, 0, 0), (0, 0, 0), (2193, 0, 0), (6068, 0, 0), (0, 0, 0), (0, 0, 0), (0, 0, 0), (0, 0, 0), (0, 0, 0), (0, 0, 0), (0, 0, 0), (0, 0, 0), (0, 0, 0), (0, 0, 0), (0, 0, 0), (0, 0, 0), (0, 0, 0), (0, 0, 0), (0, 0, 0), (0, 0, 0), (0, 0, 0), (0, 0, 0), (0, 0, 0), (0, 0, 0), (0, 0, 0), (0, 0, 0), (0, 0, 0), (2196, 0, 0), (0, 0, 0), (2194, 0, 0), (0, 0, 0), (0, 0, 0), (0, 0, 0), (2198, 0, 0), (0, 0, 0), (2194, 0, 0), (0, 0, 0), (0, 0, 0), (0, 0, 0), (0, 0, 0), (2200, 0, 0), (0, 0, 0), (2194, 0, 0), (0, 0, 0), (2193, 0, 0), (1162, 0, 0), (0, 0, 0), (0, 0, 0), (2202, 0, 0), (0, 0, 0), (2194, 0, 0), (0, 0, 0), (2193, 0, 0), (1170, 0, 0), (0, 0, 0), (0, 0, 0), (2204, 0, 0), (0, 0, 0), (2194, 0, 0), (0, 0, 0), (0, 0, 0), (0, 0, 0), (2206, 0, 0), (0, 0, 0), (2194, 0, 0), (0, 0, 0), (0, 0, 0), (0, 0, 0), (0, 0, 0), (2208, 0, 0), (0, 0, 0), (2194, 0, 0), (0, 0, 0), (0, 0, 0), (0, 0, 0), (0, 0, 0), (2194, 0, 0), (0, 0, 0), (0, 0, 0), (2194, 0, 0), (0, 0, 0)] = true := mj_tab_f (by decide +kernel)
theorem ct_157 (G : mj_G) {h : mj_H} (L : isLay h) {d w : Int} (hr : isRr h 7 d w) (hd : -1099511627776 < d ∧ d < 1099511627776) (hw : -1 ≤ w ∧ w < 2147483648) {T : List Tr} {v : Nat} (hT : isTr h T (fun _ => false) v) {g m b : Int} (hl0 : Int.gcd (Int.gcd m b) (frmO d m b).2.2 = 1 → T.length < 8192) (hm0 : m ≠ 0) (hm : -1073741824 < m ∧ m < 1073741824) (hb : 0 ≤ b ∧ b < 1073741824) {n : Nat} (ht : Int.gcd (Int.gcd m b) (frmO d m b).2.2 = 1 → trm d w n (frmO d m b)) : mj_Ct G (mj_mt 157) 0 0 [.ref 69, .int (jI g), .long (jL m), .long (jL b), .ref 7] h (fun o h' => o = .returned none ∧ isTr h' (if Int.gcd (Int.gcd m b) (frmO d m b).2.2 = 1 then T ++ [rcT d w g m b n] else T) (fun _ => false) v ∧ Fr inTr noT h h') := by
  have hbb : 0 ≤ b * b ∧ b * b ≤ 1152921504606846976 := ⟨sqn b, Int.le_trans (Int.mul_le_mul (c := 1073741824) (d := 1073741824) (by omega) (by omega) hb.1 (by decide)) (by decide)⟩
  have hc0 := Int.natAbs_tdiv_le_natAbs (b * b - d) (4 * m)
  have eC : (jL b * jL b - hJ h 7 0) / (jL 4 * jL m) = jL (frmO d m b).2.2 := by
    rw [hr.2.1, jL_mul, jL_mul, jL_sub, jL_div (by omega) (by omega) (by omega) (by omega)]
    rfl
  have hF0 : (frmO d m b).2.2 = (b * b - d).tdiv (4 * m) := rfl
  refine mj_Ct_of mj_ok tb_157 rfl rfl (Nat.le_of_ble_eq_true rfl) (fun Run hR => ?_)
  have r114 : ∀ (ft : Fm) (h' : mj_H) (pL qL rL sL : Int64) (r s : Int) (x15 x16 x17 x18 : Option Value), Int.gcd (Int.gcd m b) (frmO d m b).2.2 = 1 → rcT d w g m b n = (g, b, ft.1, ft.2.1, s, -r) → h' = sFm h 77 ft → rL = jL r → sL = jL s → Run 114 (l157 (jI g) (jL m) (jL b) pL qL rL sL x15 x16 x17 x18) [] h' (0, 0) := by
    rintro ft h' pL qL rL sL r s x15 x16 x17 x18 hg hrc e rfl rfl
    have hl := hl0 hg
    have F : Fr inTr noT h h' := e ▸ (Fr.refl _ _ h).sFm (by omega) ft
    have L' := L.F F (fun _ z => z.elim)
    have e3 : hI h' 69 3 = jI T.length := e ▸ hT.1
    have hf : isFm h' 77 ft := e ▸ isFm_sFm h (L.K 77 rfl) ft
    have vin : ∀ {c : Nat}, hN h' c = 8192 → vp_in (hI h' 69 3) (hN h' c) := by
      intro c hc
      rw [e3, hc]
      exact jI_in (by omega) (by omega) (by omega)
    have nat : (hI h' 69 3).toNatClampNeg = T.length := by
      rw [e3, jI_nat (by omega) (by omega), Int.toNat_natCast]
    refine hR 60 61 _ _ _ _ _ _ rfl ?_
    refine ⟨L'.K 69 rfl, _, L'.R 69 4 _ rfl, L'.K 69 rfl, L'.K 78 rfl, vin (L'.N 77 rfl), ?_⟩
    refine ⟨L'.K 69 rfl, _, L'.R 69 5 _ rfl, L'.K 69 rfl, L'.K 79 rfl, vin (L'.N 78 rfl), ?_⟩
    refine ⟨L'.K 69 rfl, _, L'.R 69 6 _ rfl, L'.K 69 rfl, L'.K 69 rfl, _, L'.R 69 2 _ rfl, L'.K 77 rfl, L'.K 80 rfl, vin (L'.N 79 rfl), ?_⟩
    refine ⟨L'.K 69 rfl, _, L'.R 69 7 _ rfl, L'.K 69 rfl, L'.K 69 rfl, _, L'.R 69 2 _ rfl, L'.K 77 rfl, L'.K 81 rfl, vin (L'.N 80 rfl), ?_⟩
    refine ⟨L'.K 69 rfl, _, L'.R 69 8 _ rfl, L'.K 69 rfl, L'.K 82 rfl, vin (L'.N 81 rfl), ?_⟩
    refine ⟨L'.K 69 rfl, _, L'.R 69 9 _ rfl, L'.K 69 rfl, L'.K 83 rfl, vin (L'.N 82 rfl), ?_⟩
    refine ⟨L'.K 69 rfl, _, L'.R 69 10 _ rfl, L'.K 69 rfl, L'.K 84 rfl, vin (L'.N 83 rfl), ?_⟩
    refine ⟨L'.K 69 rfl, L'.K 69 rfl, rfl, ?_, ?_⟩
    · rw [if_pos hg]
      show isTr (sI (sI (sJ (sJ (sJ (sJ (sI (sI h' 78 (hI h' 69 3).toNatClampNeg (jI g)) 79 (hI h' 69 3).toNatClampNeg (jL b).toInt32) 80 (hI h' 69 3).toNatClampNeg (hJ h' 77 0)) 81 (hI h' 69 3).toNatClampNeg (hJ h' 77 1)) 82 (hI h' 69 3).toNatClampNeg (jL s)) 83 (hI h' 69 3).toNatClampNeg (-(jL r))) 84 (hI h' 69 3).toNatClampNeg (jI 0 &&& 1)) 69 3 (hI h' 69 3 + jI 1)) _ _ _
      rw [nat, hf.2.1, hf.2.2.1, e3, jI_add, jL_I, jL_neg, hrc]
      have hT' : isTr h' T (fun _ => false) v := e ▸ hT
      refine ⟨?_, ?_, ?_, fun i t hi => ?_⟩
      · rw [List.length_append]
        exact sI_at _ _ _ _
      · rw [List.length_append]
        show T.length + 1 ≤ 8192
        omega
      · exact hT'.2.2.1
      · by_cases hi2 : i = T.length
        · subst hi2
          rw [at_mid T _ []] at hi
          rw [← Option.some.inj hi]
          refine ⟨⟨?_, ?_, ?_⟩, ?_, ?_, ?_, ?_⟩ <;> first | (simp [hI, hJ, sI, sJ, mj_up]; done) | (simp [hI, hJ, sI, sJ, mj_up]; rfl)
        · have hlt := lt_of_some hi
          simp only [List.length_append, List.length_cons, List.length_nil] at hlt
          rw [List.getElem?_append_left (by omega)] at hi
          obtain ⟨⟨b1, b2, b3⟩, b4, b5, b6, b7⟩ := hT'.2.2.2 i t hi
          refine ⟨⟨?_, ?_, ?_⟩, ?_, ?_, ?_, ?_⟩ <;> simp [hI, hJ, sI, sJ, mj_up, hi2] <;> assumption
    · exact (((((((F.sI (by omega) _ _).sI (by omega) _ _).sJ (by omega) _ _).sJ (by omega) _ _).sJ (by omega) _ _).sJ (by omega) _ _).sI (by omega) _ _).sI (by omega) _ _
  have r52 : ∀ (k : Nat) (f : Fm) (z : Int × Int) (h' : mj_H) (pL qL rL sL : Int64) (x15 x16 x17 x18 : Option Value), Int.gcd (Int.gcd m b) (frmO d m b).2.2 = 1 → trm d w k f → rcT d w g m b n = (g, b, (itF d w k f).1, (itF d w k f).2.1, (itK d w k f z).2, -(itK d w k f z).1) → h' = sFm h 77 f → rL = jL z.1 → sL = jL z.2 → Run 52 (l157 (jI g) (jL m) (jL b) pL qL rL sL x15 x16 x17 x18) [] h' (0, 0) := by
    intro k
    induction k with
    | zero =>
      rintro f z h' pL qL rL sL x15 x16 x17 x18 hg hk hrc rfl rfl rfl
      have F : Fr inTr noT h (sFm h 77 f) := (Fr.refl _ _ h).sFm (by omega) f
      have L' := L.F F (fun _ z => z.elim)
      refine hR 60 30 _ _ _ _ _ _ rfl ?_
      refine ⟨L'.K 69 rfl, _, L'.R 69 2 _ rfl, L'.K 7 rfl, jcall (ct_66' G (isRr_sFm (by decide) hr) (isFm_sFm h (L.K 77 rfl) f) hd hw hk.1) ?_⟩
      rw [hk.2]
      refine ⟨fun c => ?_, fun c => ?_⟩
      · exact absurd c (by decide)
      · exact r114 f _ _ _ _ _ z.1 z.2 _ _ _ _ hg hrc rfl rfl rfl
    | succ k ih =>
      rintro f z h' pL qL rL sL x15 x16 x17 x18 hg hk hrc rfl rfl rfl
      have F : Fr inTr noT h (sFm h 77 f) := (Fr.refl _ _ h).sFm (by omega) f
      have L' := L.F F (fun _ z => z.elim)
      have r107 : ∀ (pL qL sL oL : Int64) (x15 x16 : Option Value), sL = jL (nkE d w f.2.1 f.2.2 * z.2 - z.1) → oL = jL z.2 → Run 107 (l157 (jI g) (jL m) (jL b) pL qL (jL z.1) sL x15 x16 (some (.long oL)) none) [] (sFm h 77 (nx d w f)) (0, 0) := by
        rintro pL qL sL oL x15 x16 rfl rfl
        refine hR 60 58 _ _ _ _ _ _ rfl ?_
        exact ih (nx d w f) (z.2, nkE d w f.2.1 f.2.2 * z.2 - z.1) _ _ _ _ _ _ _ _ _ hg hk.2 hrc rfl rfl rfl
      have r97 : ∀ (pL qL kL oL : Int64), kL = jL (nkE d w f.2.1 f.2.2) → oL = jL z.2 → Run 97 (l157 (jI g) (jL m) (jL b) pL qL (jL z.1) (jL z.2) (some (.long kL)) none (some (.long oL)) none) [] (sFm h 77 (nx d w f)) (0, 0) := by
        rintro pL qL kL oL rfl rfl
        refine hR 60 52 _ _ _ _ _ _ rfl ?_
        exact r107 _ _ _ _ _ _ (by rw [jL_mul, jL_sub]) rfl
      have r89 : ∀ (pL qL kL oL : Int64), kL = jL (nkE d w f.2.1 f.2.2) → Run 89 (l157 (jI g) (jL m) (jL b) pL qL (jL z.1) (jL z.2) (some (.long kL)) none (some (.long oL)) none) [] (sFm h 77 (nx d w f)) (0, 0) := by
        rintro pL qL kL oL rfl
        refine hR 60 48 _ _ _ _ _ _ rfl ?_
        exact r97 _ _ _ _ rfl rfl
      have r75 : ∀ (pL qL kL : Int64) (x17 x18 : Option Value), kL = jL (nkE d w f.2.1 f.2.2) → Run 75 (l157 (jI g) (jL m) (jL b) pL qL (jL z.1) (jL z.2) (some (.long kL)) none x17 x18) [] (sFm h 77 (nx d w f)) (0, 0) := by
        rintro pL qL kL x17 x18 rfl
        refine hR 60 40 _ _ _ _ _ _ rfl ?_
        exact r89 _ _ _ _ rfl
      refine hR 60 30 _ _ _ _ _ _ rfl ?_
      refine ⟨L'.K 69 rfl, _, L'.R 69 2 _ rfl, L'.K 7 rfl, jcall (ct_66' G (isRr_sFm (by decide) hr) (isFm_sFm h (L.K 77 rfl) f) hd hw hk.1.1) ?_⟩
      rw [hk.1.2]
      refine ⟨fun c => ?_, fun c => ?_⟩
      · refine ⟨L'.K 69 rfl, _, L'.R 69 2 _ rfl, L'.K 7 rfl, jcallW (ct_27' G (isRr_sFm (by decide) hr) (isFm_sFm h (L.K 77 rfl) f) hd hw hk.1.1) ?_⟩
        rw [sFm_sFm]
        exact r75 _ _ _ _ _ rfl
      · exact absurd rfl c
  have r46 : ∀ (pL qL : Int64) (x11 x12 x13 x14 x15 x16 x17 x18 : Option Value), Int.gcd (Int.gcd m b) (frmO d m b).2.2 = 1 → Run 46 [some (.ref 69), some (.int (jI g)), some (.long (jL m)), none, some (.long (jL b)), none, some (.ref 7), some (.long pL), none, some (.long qL), none, x11, x12, x13, x14, x15, x16, x17, x18] [] (sFm h 77 (frmO d m b)) (0, 0) := by
    intro pL qL x11 x12 x13 x14 x15 x16 x17 x18 hg
    refine hR 60 26 _ _ _ _ _ _ rfl ?_
    exact r52 n (frmO d m b) (0, 1) _ _ _ _ _ _ _ _ _ hg (ht hg) rfl rfl rfl rfl
  have r40 : ∀ (x7 x8 x9 x10 x11 x12 x13 x14 x15 x16 x17 x18 : Option Value), Int.gcd (Int.gcd m b) (frmO d m b).2.2 = 1 → Run 40 [some (.ref 69), some (.int (jI g)), some (.long (jL m)), none, some (.long (jL b)), none, some (.ref 7), x7, x8, x9, x10, x11, x12, x13, x14, x15, x16, x17, x18] [] (sFm h 77 (frmO d m b)) (0, 0) := by
    intro x7 x8 x9 x10 x11 x12 x13 x14 x15 x16 x17 x18 hg
    refine hR 60 22 _ _ _ _ _ _ rfl ?_
    exact r46 _ _ _ _ _ _ _ _ _ _ hg
  have r27 : ∀ (h' : mj_H) (x7 x8 x9 x10 x11 x12 x13 x14 x15 x16 x17 x18 : Option Value), h' = sFm h 77 (frmO d m b) → Run 27 [some (.ref 69), some (.int (jI g)), some (.long (jL m)), none, some (.long (jL b)), none, some (.ref 7), x7, x8, x9, x10, x11, x12, x13, x14, x15, x16, x17, x18] [] h' (0, 0) := by
    rintro h' x7 x8 x9 x10 x11 x12 x13 x14 x15 x16 x17 x18 rfl
    have F : Fr inTr noT h (sFm h 77 (frmO d m b)) := (Fr.refl _ _ h).sFm (by omega) _
    have L' := L.F F (fun _ z => z.elim)
    have hgle : (Int.gcd (Int.gcd m b) (frmO d m b).2.2 : Int) < 9223372036854775808 := by
      have h1 : (Int.gcd (Int.gcd m b) (frmO d m b).2.2) ≤ m.natAbs := by
        exact Nat.le_of_dvd (by omega) (Int.natCast_dvd_natCast.1 (Int.dvd_natAbs.2 (Int.dvd_trans (Int.gcd_dvd_left ..) (Int.gcd_dvd_left ..))))
      omega
    refine hR 60 15 _ _ _ _ _ _ rfl ?_
    refine ⟨L'.K 69 rfl, _, L'.R 69 2 _ rfl, L'.K 77 rfl, jcall (ct_67 G (isFm_sFm h (L.K 77 rfl) (frmO d m b)) ?_) ?_⟩
    · rw [hF0]
      show _ < m ∧ m < _ ∧ _ < b ∧ b < _ ∧ _
      omega
    · refine ⟨fun c => ?_, fun c => ?_⟩
      · simp only [mj_lcm] at c
        have c' : jL (Int.gcd (Int.gcd m b) (frmO d m b).2.2 : Int) = jL 1 := c
        rw [jL_eq (by omega) (by omega) (by omega) (by omega)] at c'
        exact r40 _ _ _ _ _ _ _ _ _ _ _ _ (by omega)
      · simp only [mj_lcm] at c
        have c' : ¬ jL (Int.gcd (Int.gcd m b) (frmO d m b).2.2 : Int) = jL 1 := c
        rw [jL_eq (by omega) (by omega) (by omega) (by omega)] at c'
        refine ⟨rfl, ?_, F⟩
        rw [if_neg (by omega)]
        exact hT
  refine hR 60 0 _ _ _ _ _ _ rfl ?_
  refine ⟨L.K 69 rfl, _, L.R 69 2 _ rfl, L.K 7 rfl, ?_, L.K 77 rfl, jcallV (ct_24 G (L.K 77 rfl) _ _ _) ?_⟩
  · simp (disch := omega) only [mj_lcm, jI_lt, jI_le, jI_eq, jL_lt, jL_le, jL_eq, jI_lt0, jI_0le, jI_0lt, jI_le0, jI_eq0, jL_eq0, jI_L, jI_add, jI_sub, jI_mul, jI_neg, jL_add, jL_sub, jL_mul, jL_neg, jL_I, jI_div, jI_mod, jL_div, jL_mod]
    omega
  · rw [eC]
    exact r27 _ _ _ _ _ _ _ _ _ _ _ _ _ rfl
def hitT (f : Fm) (t : Tr) : Bool := decide (t.2.2.1 = f.1 ∧ t.2.2.2.1 = f.2.1)
def bdT (t : Tr) : Prop := (-9223372036854775808 ≤ t.2.2.1 ∧ t.2.2.1 < 9223372036854775808) ∧ -9223372036854775808 ≤ t.2.2.2.1 ∧ t.2.2.2.1 < 9223372036854775808
/-- FormHouse$Trials.isAt(ILFormHouse$Form;)Z; cuts at [] -/
def cd_160 : List mj_E := [(0, false, .aload_n 0, 1, 0, 0, 0, 0, 0),
  (1, false, .getfield 52, 3, 12, 10, 2, 0, 0),
  (4, false, .iload_n 1, 1, 0, 0, 0, 0, 0),
  (5, false, .baload, 1, 0, 0, 0, 0, 0),
  (6, false, .ifCond .eq 35, 3, 23, 0, 0, 0, 0),
  (9, false, .aload_n 0, 1, 0, 0, 0, 0, 0),
  (10, false, .getfield 39, 3, 12, 6, 2, 0, 0),
  (13, false, .iload_n 1, 1, 0, 0, 0, 0, 0),
  (14, false, .laload, 1, 0, 0, 0, 0, 0),
  (15, false, .aload_n 2, 1, 0, 0, 0, 0, 0),
  (16, false, .getfield 108, 3, 6, 0, 1, 0, 0),
  (19, false, .lcmp, 1, 0, 0, 0, 0, 0),
  (20, false, .ifCond .ne 21, 3, 23, 0, 0, 0, 0),
  (23, false, .aload_n 0, 1, 0, 0, 0, 0, 0),
  (24, false, .getfield 43, 3, 12, 7, 2, 0, 0),
  (27, false, .iload_n 1, 1, 0, 0, 0, 0, 0),
  (28, false, .laload, 1, 0, 0, 0, 0, 0),
  (29, false, .aload_n 2, 1, 0, 0, 0, 0, 0),
  (30, false, .getfield 111, 3, 6, 1, 1, 0, 0),
  (33, false, .lcmp, 1, 0, 0, 0, 0, 0),
  (34, false, .ifCond .ne 7, 3, 23, 0, 0, 0, 0),
  (37, false, .iconst 1, 1, 0, 0, 0, jI 1, 0),
  (38, false, .goto 4, 3, 24, 0, 0, 0, 0),
  (41, false, .iconst 0, 1, 0, 0, 0, jI 0, 0),
  (42, false, .ireturn, 1, 0, 0, 0, 0, 0)]
def cx_160 : mj_X := (4, [], [])
theorem tb_160 : mj_tab (mj_mt 160) cx_160 cd_160 mj_mh [(0, 0, 0), (2208, 0, 0), (0, 0, 0), (0, 0, 0), (0, 0, 0), (0, 0, 0), (2200, 0, 0), (0, 0, 0), (0, 0, 0), (0, 0, 0), (1162, 0, 0), (0, 0, 0), (0, 0, 0), (0, 0, 0), (2202, 0, 0), (0, 0, 0), (0, 0, 0), (0, 0, 0), (1170, 0, 0), (0, 0, 0), (0, 0, 0), (0, 0, 0), (0, 0, 0), (0, 0, 0), (0, 0, 0)] = true := mj_tab_f (by decide +kernel)
theorem ct_160 (G : mj_G) {h : mj_H} (L : isLay h) {T : List Tr} {M : Nat → Bool} {v : Nat} (hT : isTr h T M v) {k c : Nat} {t : Tr} (hk : T[k]? = some t) (ht : bdT t) {f : Fm} (hf : isFm h c f) (hfb : (-9223372036854775808 ≤ f.1 ∧ f.1 < 9223372036854775808) ∧ -9223372036854775808 ≤ f.2.1 ∧ f.2.1 < 9223372036854775808) : mj_Ct G (mj_mt 160) 0 0 [.ref 69, .int (jI k), .ref c] h (jR (.int (jI (if M k = true ∧ hitT f t = true then 1 else 0))) h) := by
  have hlt := lt_of_some hk
  have hl := hT.2.1
  obtain ⟨⟨b1, b2, b3⟩, b4, b5, b6, b7⟩ := hT.2.2.2 k t hk
  obtain ⟨t1, t2⟩ := ht
  obtain ⟨f1, f2⟩ := hfb
  obtain ⟨g0, g1, g2, g3⟩ := hf
  have nat : (jI (k : Int)).toNatClampNeg = k := by rw [jI_nat (by omega) (by omega), Int.toNat_natCast]
  have vin : ∀ {c : Nat}, hN h c = 8192 → vp_in (jI (k : Int)) (hN h c) := by
    intro c hc
    rw [hc]
    exact jI_in (by omega) (by omega) (by omega)
  refine mj_Ct_of mj_ok tb_160 rfl rfl (Nat.le_of_ble_eq_true rfl) (fun Run hR => ?_)
  refine hR 60 0 _ _ _ _ _ _ rfl ?_
  refine ⟨L.K 69 rfl, _, L.R 69 10 _ rfl, L.K 84 rfl, vin (L.N 83 rfl), ?_⟩
  rw [nat, b3]
  refine ⟨fun c1 => ⟨Or.inl rfl, ?_⟩, fun c1 => ⟨L.K 69 rfl, _, L.R 69 6 _ rfl, L.K 80 rfl, vin (L.N 79 rfl), ?_⟩⟩
  · by_cases z : M k = true
    · rw [if_pos z] at c1
      exact absurd c1 (by decide)
    · rw [if_neg (fun q => z q.1)]
      exact jRe rfl
  · have z : M k = true := by
      by_cases z : M k = true
      · exact z
      · rw [if_neg z] at c1
        exact absurd rfl c1
    rw [nat, b4]
    refine ⟨g0, fun c2 => ⟨L.K 69 rfl, _, L.R 69 7 _ rfl, L.K 81 rfl, vin (L.N 80 rfl), ?_⟩, fun c2 => ⟨Or.inl rfl, ?_⟩⟩
    · rw [nat, b5]
      refine ⟨g0, fun c3 => ⟨Or.inr rfl, ?_⟩, fun c3 => ⟨Or.inl rfl, ?_⟩⟩
      · rw [g1] at c2
        rw [g2] at c3
        simp (disch := omega) only [mj_lcm, jI_lt, jI_le, jI_eq, jL_lt, jL_le, jL_eq, jI_lt0, jI_0le, jI_0lt, jI_le0, jI_eq0, jL_eq0, jI_L, jI_add, jI_sub, jI_mul, jI_neg, jL_add, jL_sub, jL_mul, jL_neg, jL_I, jI_div, jI_mod, jL_div, jL_mod] at c2 c3
        rw [if_pos ⟨z, by unfold hitT; simp only [decide_eq_true_eq]; exact ⟨c2, c3⟩⟩]
        exact jRe rfl
      · rw [g2] at c3
        simp (disch := omega) only [mj_lcm, jI_lt, jI_le, jI_eq, jL_lt, jL_le, jL_eq, jI_lt0, jI_0le, jI_0lt, jI_le0, jI_eq0, jL_eq0, jI_L, jI_add, jI_sub, jI_mul, jI_neg, jL_add, jL_sub, jL_mul, jL_neg, jL_I, jI_div, jI_mod, jL_div, jL_mod] at c3
        rw [if_neg (fun q => by have := q.2; unfold hitT at this; simp only [decide_eq_true_eq] at this; exact c3 this.2)]
        exact jRe rfl
    · rw [g1] at c2
      simp (disch := omega) only [mj_lcm, jI_lt, jI_le, jI_eq, jL_lt, jL_le, jL_eq, jI_lt0, jI_0le, jI_0lt, jI_le0, jI_eq0, jL_eq0, jI_L, jI_add, jI_sub, jI_mul, jI_neg, jL_add, jL_sub, jL_mul, jL_neg, jL_I, jI_div, jI_mod, jL_div, jL_mod] at c2
      rw [if_neg (fun q => by have := q.2; unfold hitT at this; simp only [decide_eq_true_eq] at this; exact c2 this.1)]
      exact jRe rfl
theorem cgB {b b' : Bool} (e : b = b') : jI (if b = true then 1 else 0) = jI (if b' = true then 1 else 0) := by rw [e]
abbrev inMt (x : Nat) : Prop := x = 69 ∨ x = 84
/-- FormHouse$Trials.meet(LFormHouse$Form;)V; cuts at [2, 41, 58] -/
def cl_169_1 : List mj_E := (42, false, .getfield 52, 3, 12, 10, 2, 0, 0) ::
  (45, false, .iload_n 2, 1, 0, 0, 0, 0, 0) ::
  (46, false, .iconst 1, 1, 0, 0, 0, jI 1, 0) ::
  (47, false, .bastore, 1, 0, 0, 0, 0, 0) ::
  (48, false, .aload_n 0, 1, 0, 0, 0, 0, 0) ::
  (49, false, .dup, 1, 0, 0, 0, 0, 0) ::
  (50, false, .getfield 60, 3, 12, 11, 0, 0, 0) ::
  (53, false, .iconst 1, 1, 0, 0, 0, jI 1, 0) ::
  (54, false, .iadd, 1, 0, 0, 0, 0, 0) ::
  (55, false, .putfield 60, 3, 12, 11, 0, 0, 0) ::
  (58, true, .iinc 2 1, 3, 0, 0, 0, jI 1, 0) ::
  (61, false, .goto (-59), 3, 2, 0, 0, 0, 0) ::
  (64, false, .return_, 1, 0, 0, 0, 0, 0) ::
  []
def cl_169_0 : List mj_E := (0, false, .iconst 0, 1, 0, 0, 0, jI 0, 0) ::
  (1, false, .istore_n 2, 1, 0, 0, 0, 0, 0) ::
  (2, true, .iload_n 2, 1, 0, 0, 0, 0, 0) ::
  (3, false, .aload_n 0, 1, 0, 0, 0, 0, 0) ::
  (4, false, .getfield 56, 3, 12, 3, 0, 0, 0) ::
  (7, false, .if_icmp .ge 57, 3, 36, 0, 0, 0, 0) ::
  (10, false, .aload_n 0, 1, 0, 0, 0, 0, 0) ::
  (11, false, .getfield 39, 3, 12, 6, 2, 0, 0) ::
  (14, false, .iload_n 2, 1, 0, 0, 0, 0, 0) ::
  (15, false, .laload, 1, 0, 0, 0, 0, 0) ::
  (16, false, .aload_n 1, 1, 0, 0, 0, 0, 0) ::
  (17, false, .getfield 108, 3, 6, 0, 1, 0, 0) ::
  (20, false, .lcmp, 1, 0, 0, 0, 0, 0) ::
  (21, false, .ifCond .ne 37, 3, 34, 0, 0, 0, 0) ::
  (24, false, .aload_n 0, 1, 0, 0, 0, 0, 0) ::
  (25, false, .getfield 43, 3, 12, 7, 2, 0, 0) ::
  (28, false, .iload_n 2, 1, 0, 0, 0, 0, 0) ::
  (29, false, .laload, 1, 0, 0, 0, 0, 0) ::
  (30, false, .aload_n 1, 1, 0, 0, 0, 0, 0) ::
  (31, false, .getfield 111, 3, 6, 1, 1, 0, 0) ::
  (34, false, .lcmp, 1, 0, 0, 0, 0, 0) ::
  (35, false, .ifCond .eq 6, 3, 23, 0, 0, 0, 0) ::
  (38, false, .goto 20, 3, 34, 0, 0, 0, 0) ::
  (41, true, .aload_n 0, 1, 0, 0, 0, 0, 0) ::
  cl_169_1
def cd_169 : List mj_E := cl_169_0
def cx_169 : mj_X := (0, [], [])
theorem tb_169 : mj_tab (mj_mt 169) cx_169 cd_169 mj_mh [(0, 0, 0), (0, 0, 0), (0, 0, 0), (0, 0, 0), (2194, 0, 0), (0, 0, 0), (0, 0, 0), (2200, 0, 0), (0, 0, 0), (0, 0, 0), (0, 0, 0), (1162, 0, 0), (0, 0, 0), (0, 0, 0), (0, 0, 0), (2202, 0, 0), (0, 0, 0), (0, 0, 0), (0, 0, 0), (1170, 0, 0), (0, 0, 0), (0, 0, 0), (0, 0, 0), (0, 0, 0), (2208, 0, 0), (0, 0, 0), (0, 0, 0), (0, 0, 0), (0, 0, 0), (0, 0, 0), (2210, 0, 0), (0, 0, 0), (0, 0, 0), (2210, 0, 0), (0, 0, 0), (0, 0, 0), (0, 0, 0)] = true := mj_tab_f (by decide +kernel)
theorem ct_169 (G : mj_G) {h : mj_H} (L : isLay h) {T : List Tr} {M : Nat → Bool} {v : Nat} (hT : isTr h T M v) (hbt : ∀ t, t ∈ T → bdT t) (hv : v ≤ 1073741824) {c : Nat} {f : Fm} (hf : isFm h c f) (hc69 : ¬ inMt c) (hfb : (-9223372036854775808 ≤ f.1 ∧ f.1 < 9223372036854775808) ∧ -9223372036854775808 ≤ f.2.1 ∧ f.2.1 < 9223372036854775808) : mj_Ct G (mj_mt 169) 0 0 [.ref 69, .ref c] h (fun o h' => o = .returned none ∧ isTr h' T (fun i => M i || (T[i]?.any (hitT f))) (v + T.countP (hitT f)) ∧ Fr inMt noT h h') := by
  obtain ⟨f1, f2⟩ := hfb
  have hl := hT.2.1
  refine mj_Ct_of mj_ok tb_169 rfl rfl (Nat.le_of_ble_eq_true rfl) (fun Run hR => ?_)
  have r2 : ∀ (post pre : List Tr) (h' : mj_H) (kI : Int32), T = pre ++ post → Fr inMt noT h h' → isTr h' T (fun i => M i || (decide (i < pre.length) && T[i]?.any (hitT f))) (v + pre.countP (hitT f)) → kI = jI pre.length → Run 2 [some (.ref 69), some (.ref c), some (.int kI)] [] h' (0, 0) := by
    intro post
    induction post with
    | nil =>
      rintro pre h' kI hp F hT' rfl
      have L' := L.F F (fun _ z => z.elim)
      rw [List.append_nil] at hp
      subst hp
      refine hR 60 2 _ _ _ _ _ _ rfl ?_
      refine ⟨L'.K 69 rfl, fun c => ?_, fun c => ?_⟩
      · refine ⟨rfl, ⟨hT'.1, hT'.2.1, hT'.2.2.1, fun i t hi => ?_⟩, F⟩
        obtain ⟨⟨u1, u2, u3⟩, u4⟩ := hT'.2.2.2 i t hi
        exact ⟨⟨u1, u2, u3.trans (cgB (by dsimp only; rw [decide_eq_true (lt_of_some hi), Bool.true_and]))⟩, u4⟩
      · rw [hT'.1] at c
        simp (disch := omega) only [mj_lcm, jI_lt, jI_le, jI_eq, jL_lt, jL_le, jL_eq, jI_lt0, jI_0le, jI_0lt, jI_le0, jI_eq0, jL_eq0, jI_L, jI_add, jI_sub, jI_mul, jI_neg, jL_add, jL_sub, jL_mul, jL_neg, jL_I, jI_div, jI_mod, jL_div, jL_mod] at c
        omega
    | cons t post ih =>
      rintro pre h' kI hp F hT' rfl
      have L' := L.F F (fun _ z => z.elim)
      have hk : T[pre.length]? = some t := by
        rw [hp]
        exact at_mid pre t post
      have hlt := lt_of_some hk
      obtain ⟨⟨b1, b2, b3⟩, b4, b5, b6, b7⟩ := hT'.2.2.2 _ t hk
      obtain ⟨t1, t2⟩ := hbt t (List.mem_iff_getElem?.2 ⟨_, hk⟩)
      obtain ⟨g0, g1, g2, g3⟩ := isFm.F F hf hc69
      have nat : (jI (pre.length : Int)).toNatClampNeg = pre.length := by rw [jI_nat (by omega) (by omega), Int.toNat_natCast]
      have vin : ∀ {c : Nat}, hN h' c = 8192 → vp_in (jI (pre.length : Int)) (hN h' c) := by
        intro c hc
        rw [hc]
        exact jI_in (by omega) (by omega) (by omega)
      have hp2 : T = (pre ++ [t]) ++ post := by
        rw [hp, List.append_assoc]
        rfl
      have r58 : ∀ (h3 : mj_H), Fr inMt noT h h3 → isTr h3 T (fun i => M i || (decide (i < (pre ++ [t]).length) && T[i]?.any (hitT f))) (v + (pre ++ [t]).countP (hitT f)) → Run 58 [some (.ref 69), some (.ref c), some (.int (jI pre.length))] [] h3 (0, 0) := by
        intro h3 F3 hT3
        refine hR 60 34 _ _ _ _ _ _ rfl ?_
        refine ih (pre ++ [t]) h3 _ hp2 F3 hT3 ?_
        rw [jI_add, List.length_append]
        rfl
      have miss : hitT f t = false → Run 58 [some (.ref 69), some (.ref c), some (.int (jI pre.length))] [] h' (0, 0) := by
        intro hm
        refine r58 h' F ⟨hT'.1, hT'.2.1, ?_, fun i u hi => ?_⟩
        · rw [hT'.2.2.1, List.countP_append, List.countP_cons, hm]
          rfl
        · obtain ⟨⟨u1, u2, u3⟩, u4⟩ := hT'.2.2.2 i u hi
          refine ⟨⟨u1, u2, u3.trans ?_⟩, u4⟩
          by_cases z : i = pre.length
          · subst z
            exact cgB (by dsimp only; rw [hk]; simp [hm])
          · have e : decide (i < (pre ++ [t]).length) = decide (i < pre.length) := by
              rw [List.length_append]
              refine decide_eq_decide.2 ?_
              show i < pre.length + 1 ↔ _
              omega
            exact cgB (by dsimp only; rw [e])
      have hit : hitT f t = true → Run 41 [some (.ref 69), some (.ref c), some (.int (jI pre.length))] [] h' (0, 0) := by
        intro hm
        refine hR 60 23 _ _ _ _ _ _ rfl ?_
        refine ⟨L'.K 69 rfl, _, L'.R 69 10 _ rfl, L'.K 84 rfl, vin (L'.N 83 rfl), L'.K 69 rfl, L'.K 69 rfl, ?_⟩
        rw [nat]
        refine r58 _ ((F.sI (by omega) _ _).sI (by omega) _ _) ⟨hT'.1, hT'.2.1, ?_, fun i u hi => ?_⟩
        · refine (sI_at _ _ _ _).trans ?_
          show hI h' 69 11 + jI 1 = _
          rw [hT'.2.2.1, jI_add, List.countP_append, List.countP_cons, hm]
          rfl
        · obtain ⟨⟨u1, u2, u3⟩, u4⟩ := hT'.2.2.2 i u hi
          refine ⟨⟨u1, u2, ?_⟩, u4⟩
          show hI (sI h' 84 pre.length (jI 1 &&& 1)) 84 i = _
          by_cases z : i = pre.length
          · subst z
            refine (sI_at _ _ _ _).trans ?_
            refine (show jI 1 &&& 1 = jI (if true = true then 1 else 0) from rfl).trans (cgB ?_)
            dsimp only
            rw [hk]
            simp [hm]
          · refine ((sI_k _ _ z _).trans u3).trans ?_
            have e : decide (i < (pre ++ [t]).length) = decide (i < pre.length) := by
              rw [List.length_append]
              refine decide_eq_decide.2 ?_
              show i < pre.length + 1 ↔ _
              omega
            exact cgB (by dsimp only; rw [e])
      refine hR 60 2 _ _ _ _ _ _ rfl ?_
      refine ⟨L'.K 69 rfl, fun c => ?_, fun c => ⟨L'.K 69 rfl, _, L'.R 69 6 _ rfl, L'.K 80 rfl, vin (L'.N 79 rfl), ?_⟩⟩
      · rw [hT'.1] at c
        simp (disch := omega) only [mj_lcm, jI_lt, jI_le, jI_eq, jL_lt, jL_le, jL_eq, jI_lt0, jI_0le, jI_0lt, jI_le0, jI_eq0, jL_eq0, jI_L, jI_add, jI_sub, jI_mul, jI_neg, jL_add, jL_sub, jL_mul, jL_neg, jL_I, jI_div, jI_mod, jL_div, jL_mod] at c
        omega
      · rw [nat, b4]
        refine ⟨g0, fun c2 => ⟨L'.K 69 rfl, _, L'.R 69 7 _ rfl, L'.K 81 rfl, vin (L'.N 80 rfl), ?_⟩, fun c2 => ?_⟩
        · rw [nat, b5]
          refine ⟨g0, fun c3 => ?_, fun c3 => ?_⟩
          · simp only [mj_lcm] at c3
            rw [g1] at c2
            rw [g2] at c3
            simp (disch := omega) only [mj_lcm, jI_lt, jI_le, jI_eq, jL_lt, jL_le, jL_eq, jI_lt0, jI_0le, jI_0lt, jI_le0, jI_eq0, jL_eq0, jI_L, jI_add, jI_sub, jI_mul, jI_neg, jL_add, jL_sub, jL_mul, jL_neg, jL_I, jI_div, jI_mod, jL_div, jL_mod] at c2 c3
            exact hit (by unfold hitT; simp only [decide_eq_true_eq]; exact ⟨c2, c3⟩)
          · simp only [mj_lcm] at c3
            rw [g2] at c3
            simp (disch := omega) only [mj_lcm, jI_lt, jI_le, jI_eq, jL_lt, jL_le, jL_eq, jI_lt0, jI_0le, jI_0lt, jI_le0, jI_eq0, jL_eq0, jI_L, jI_add, jI_sub, jI_mul, jI_neg, jL_add, jL_sub, jL_mul, jL_neg, jL_I, jI_div, jI_mod, jL_div, jL_mod] at c3
            refine miss ?_
            unfold hitT
            simp only [decide_eq_false_iff_not]
            exact fun q => c3 q.2
        · rw [g1] at c2
          simp (disch := omega) only [mj_lcm, jI_lt, jI_le, jI_eq, jL_lt, jL_le, jL_eq, jI_lt0, jI_0le, jI_0lt, jI_le0, jI_eq0, jL_eq0, jI_L, jI_add, jI_sub, jI_mul, jI_neg, jL_add, jL_sub, jL_mul, jL_neg, jL_I, jI_div, jI_mod, jL_div, jL_mod] at c2
          refine miss ?_
          unfold hitT
          simp only [decide_eq_false_iff_not]
          exact fun q => c2 q.1
  refine hR 60 0 _ _ _ _ _ _ rfl ?_
  refine r2 T [] h _ rfl (Fr.refl _ _ h) ⟨hT.1, hT.2.1, hT.2.2.1, fun i t hi => ?_⟩ rfl
  obtain ⟨⟨u1, u2, u3⟩, u4⟩ := hT.2.2.2 i t hi
  exact ⟨⟨u1, u2, u3.trans (cgB (by simp))⟩, u4⟩
