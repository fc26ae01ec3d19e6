/-! the model: count -/
def cnV (v : Nat → Int) (x : Int) : Int := if 0 ≤ x ∧ x ≤ 14 then v x.toNat else -1
/-- what is told by count -/
def cnP (h : mj_H) (d : Int) (v : Nat → Int) : Prop := (hJ h 1412 1 = jL (v 0) ∧ v 0 = d ∧ hI h 1412 7 = jI (v 1) ∧ hI h 1412 14 = jI (v 3) ∧ hI h 1412 3 = jI (v 5) ∧ hI h 1412 17 = jI (v 6)) ∧ (hI h 1412 15 = jI (v 2) ∧ (0 ≤ v 2 ∧ v 2 ≤ 8) ∧ (v 2 = 0 → v 4 = 1) ∧ (v 2 ≠ 0 → ∃ g : Nat, g < 4096 ∧ hI h 1421 0 = jI g ∧ hI h 1417 g = jI (v 4))) ∧ v 7 = (if 0 < d then -1 else if d = -3 then 6 else if d = -4 then 4 else 2) ∧ (hI h 1412 19 = jI (v 8) ∧ (v 8 = 0 ∨ v 8 = 1)) ∧ hI h 1412 23 = jI (v 9) ∧ hI h 1412 26 = jI (v 10) ∧ hI h 1412 24 = jI (v 11) ∧ hI h 1412 35 = jI (v 12) ∧ hI h 1412 34 = jI (v 13) ∧ hI h 1412 31 = jI (v 14)
/-- FormHouseModel.count(I)I; cuts at [] -/
def cl_265_3 : List mj_E := (202, false, .ireturn, 1, 0, 0, 0, 0, 0) ::
  (203, false, .aload_n 0, 1, 0, 0, 0, 0, 0) ::
  (204, false, .getfield 294, 3, 17, 24, 0, 0, 0) ::
  (207, false, .ireturn, 1, 0, 0, 0, 0, 0) ::
  (208, false, .aload_n 0, 1, 0, 0, 0, 0, 0) ::
  (209, false, .getfield 288, 3, 17, 35, 0, 0, 0) ::
  (212, false, .ireturn, 1, 0, 0, 0, 0, 0) ::
  (213, false, .aload_n 0, 1, 0, 0, 0, 0, 0) ::
  (214, false, .getfield 291, 3, 17, 34, 0, 0, 0) ::
  (217, false, .ireturn, 1, 0, 0, 0, 0, 0) ::
  (218, false, .aload_n 0, 1, 0, 0, 0, 0, 0) ::
  (219, false, .getfield 233, 3, 17, 31, 0, 0, 0) ::
  (222, false, .ireturn, 1, 0, 0, 0, 0, 0) ::
  (223, false, .iconst (-1), 1, 0, 0, 0, jI (-1), 0) ::
  (224, false, .ireturn, 1, 0, 0, 0, 0, 0) ::
  []
def cl_265_2 : List mj_E := (155, false, .ifCond .ne 8, 3, 51, 0, 0, 0, 0) ::
  (158, false, .bipush 6, 2, 0, 0, 0, jI 6, 0) ::
  (160, false, .goto 19, 3, 59, 0, 0, 0, 0) ::
  (163, false, .aload_n 0, 1, 0, 0, 0, 0, 0) ::
  (164, false, .getfield 9, 3, 17, 1, 1, 0, 0) ::
  (167, false, .ldc2_w 7, 3, 0, 0, 0, 0, jL (-4)) ::
  (170, false, .lcmp, 1, 0, 0, 0, 0, 0) ::
  (171, false, .ifCond .ne 7, 3, 58, 0, 0, 0, 0) ::
  (174, false, .iconst 4, 1, 0, 0, 0, jI 4, 0) ::
  (175, false, .goto 4, 3, 59, 0, 0, 0, 0) ::
  (178, false, .iconst 2, 1, 0, 0, 0, jI 2, 0) ::
  (179, false, .ireturn, 1, 0, 0, 0, 0, 0) ::
  (180, false, .aload_n 0, 1, 0, 0, 0, 0, 0) ::
  (181, false, .getfield 264, 3, 17, 19, 0, 0, 0) ::
  (184, false, .ifCond .eq 7, 3, 65, 0, 0, 0, 0) ::
  (187, false, .iconst 1, 1, 0, 0, 0, jI 1, 0) ::
  (188, false, .goto 4, 3, 66, 0, 0, 0, 0) ::
  (191, false, .iconst 0, 1, 0, 0, 0, jI 0, 0) ::
  (192, false, .ireturn, 1, 0, 0, 0, 0, 0) ::
  (193, false, .aload_n 0, 1, 0, 0, 0, 0, 0) ::
  (194, false, .getfield 297, 3, 17, 23, 0, 0, 0) ::
  (197, false, .ireturn, 1, 0, 0, 0, 0, 0) ::
  (198, false, .aload_n 0, 1, 0, 0, 0, 0, 0) ::
  (199, false, .getfield 303, 3, 17, 26, 0, 0, 0) ::
  cl_265_3
def cl_265_1 : List mj_E := (113, false, .getfield 34, 3, 17, 9, 2, 0, 0) ::
  (116, false, .aload_n 0, 1, 0, 0, 0, 0, 0) ::
  (117, false, .getfield 48, 3, 17, 16, 2, 0, 0) ::
  (120, false, .iconst 0, 1, 0, 0, 0, jI 0, 0) ::
  (121, false, .iaload, 1, 0, 0, 0, 0, 0) ::
  (122, false, .iaload, 1, 0, 0, 0, 0, 0) ::
  (123, false, .ireturn, 1, 0, 0, 0, 0, 0) ::
  (124, false, .aload_n 0, 1, 0, 0, 0, 0, 0) ::
  (125, false, .getfield 154, 3, 17, 3, 0, 0, 0) ::
  (128, false, .ireturn, 1, 0, 0, 0, 0, 0) ::
  (129, false, .aload_n 0, 1, 0, 0, 0, 0, 0) ::
  (130, false, .getfield 227, 3, 17, 17, 0, 0, 0) ::
  (133, false, .ireturn, 1, 0, 0, 0, 0, 0) ::
  (134, false, .aload_n 0, 1, 0, 0, 0, 0, 0) ::
  (135, false, .getfield 9, 3, 17, 1, 1, 0, 0) ::
  (138, false, .lconst 0, 1, 0, 0, 0, 0, jL 0) ::
  (139, false, .lcmp, 1, 0, 0, 0, 0, 0) ::
  (140, false, .ifCond .le 7, 3, 44, 0, 0, 0, 0) ::
  (143, false, .iconst (-1), 1, 0, 0, 0, jI (-1), 0) ::
  (144, false, .goto 35, 3, 59, 0, 0, 0, 0) ::
  (147, false, .aload_n 0, 1, 0, 0, 0, 0, 0) ::
  (148, false, .getfield 9, 3, 17, 1, 1, 0, 0) ::
  (151, false, .ldc2_w 272, 3, 0, 0, 0, 0, jL (-3)) ::
  (154, false, .lcmp, 1, 0, 0, 0, 0, 0) ::
  cl_265_2
def cl_265_0 : List mj_E := (0, false, .aload_n 0, 1, 0, 0, 0, 0, 0) ::
  (1, false, .iconst 0, 1, 0, 0, 0, jI 0, 0) ::
  (2, false, .putfield 120, 3, 17, 0, 0, 0, 0) ::
  (5, false, .iload_n 1, 1, 0, 0, 0, 0, 0) ::
  (6, false, .tableswitch 217 0 14 #[74, 80, 85, 90, 95, 118, 123, 128, 174, 187, 192, 197, 202, 207, 212], 74, 85, 0, 0, 0, 0) ::
  (80, false, .aload_n 0, 1, 0, 0, 0, 0, 0) ::
  (81, false, .getfield 9, 3, 17, 1, 1, 0, 0) ::
  (84, false, .l2i, 1, 0, 0, 0, 0, 0) ::
  (85, false, .ireturn, 1, 0, 0, 0, 0, 0) ::
  (86, false, .aload_n 0, 1, 0, 0, 0, 0, 0) ::
  (87, false, .getfield 169, 3, 17, 7, 0, 0, 0) ::
  (90, false, .ireturn, 1, 0, 0, 0, 0, 0) ::
  (91, false, .aload_n 0, 1, 0, 0, 0, 0, 0) ::
  (92, false, .getfield 208, 3, 17, 15, 0, 0, 0) ::
  (95, false, .ireturn, 1, 0, 0, 0, 0, 0) ::
  (96, false, .aload_n 0, 1, 0, 0, 0, 0, 0) ::
  (97, false, .getfield 201, 3, 17, 14, 0, 0, 0) ::
  (100, false, .ireturn, 1, 0, 0, 0, 0, 0) ::
  (101, false, .aload_n 0, 1, 0, 0, 0, 0, 0) ::
  (102, false, .getfield 208, 3, 17, 15, 0, 0, 0) ::
  (105, false, .ifCond .ne 7, 3, 23, 0, 0, 0, 0) ::
  (108, false, .iconst 1, 1, 0, 0, 0, jI 1, 0) ::
  (109, false, .goto 14, 3, 30, 0, 0, 0, 0) ::
  (112, false, .aload_n 0, 1, 0, 0, 0, 0, 0) ::
  cl_265_1
def cd_265 : List mj_E := cl_265_0
def cx_265 : mj_X := (1, [], [5, 9, 12, 15, 18, 31, 34, 37, 60, 67, 70, 73, 76, 79, 82])
theorem tb_265 : mj_tab (mj_mt 265) cx_265 cd_265 mj_mh [(0, 0, 0), (0, 0, 0), (7099, 0, 0), (0, 0, 0), (0, 0, 0), (0, 0, 0), (7100, 0, 0), (0, 0, 0), (0, 0, 0), (0, 0, 0), (7106, 0, 0), (0, 0, 0), (0, 0, 0), (7114, 0, 0), (0, 0, 0), (0, 0, 0), (7113, 0, 0), (0, 0, 0), (0, 0, 0), (7114, 0, 0), (0, 0, 0), (0, 0, 0), (0, 0, 0), (0, 0, 0), (7108, 0, 0), (0, 0, 0), (7115, 0, 0), (0, 0, 0), (0, 0, 0), (0, 0, 0), (0, 0, 0), (0, 0, 0), (7102, 0, 0), (0, 0, 0), (0, 0, 0), (7116, 0, 0), (0, 0, 0), (0, 0, 0), (7100, 0, 0), (0, 0, 0), (0, 0, 0), (0, 0, 0), (0, 0, 0), (0, 0, 0), (0, 0, 0), (7100, 0, 0), (7066, 0, 0), (0, 0, 0), (0, 0, 0), (0, 0, 0), (0, 0, 0), (0, 0, 0), (7100, 0, 0), (6205, 0, 0), (0, 0, 0), (0, 0, 0), (0, 0, 0), (0, 0, 0), (0, 0, 0), (0, 0, 0), (0, 0, 0), (7118, 0, 0), (0, 0, 0), (0, 0, 0), (0, 0, 0), (0, 0, 0), (0, 0, 0), (0, 0, 0), (7122, 0, 0), (0, 0, 0), (0, 0, 0), (7125, 0, 0), (0, 0, 0), (0, 0, 0), (7123, 0, 0), (0, 0, 0), (0, 0, 0), (7134, 0, 0), (0, 0, 0), (0, 0, 0), (7133, 0, 0), (0, 0, 0), (0, 0, 0), (7130, 0, 0), (0, 0, 0), (0, 0, 0), (0, 0, 0)] = true := mj_tab_f (by decide +kernel)
theorem ct_265 (G : mj_G) {h : mj_H} (L : isLam h) {d : Int} (hd : -1099511627776 < d ∧ d < 1099511627776) {v : Nat → Int} (hv : cnP h d v) {x : Int} (hx : -2147483648 ≤ x ∧ x < 2147483648) : mj_Ct G (mj_mt 265) 0 0 [.ref 1412, .int (jI x)] h (jB (cnV v x) 0 h) := by
  have k := L.K 1412 rfl
  obtain ⟨⟨v0, v0', v1, v3, v5, v6⟩, ⟨v2, v2b, v4, v4'⟩, v7, ⟨v8, v8b⟩, v9, v10, v11, v12, v13, v14⟩ := hv
  have fin : ∀ {u : Int32}, u = jI (cnV v x) → jB (cnV v x) 0 h (.returned (some (.int u))) (sI h 1412 0 (jI 0)) := by
    rintro u rfl
    exact ⟨rfl, sI_at _ _ _ _, FrM.code h _⟩
  have ex := jI_to hx.1 hx.2
  refine mj_Ct_of mj_ok tb_265 rfl rfl (Nat.le_of_ble_eq_true rfl) (fun Run hR => ?_)
  refine hR 60 0 _ _ _ _ _ _ rfl ?_
  refine ⟨k, fun c => fin ?_, fun j hj e => ?_⟩
  · rw [ex] at c
    unfold cnV
    rw [if_neg (by have c1 : x < 0 ∨ 14 < x := c; omega)]
  · rw [ex] at e
    have hj2 : j ≤ 14 := hj
    have e2 : x = (j : Int) := by
      have : x = 0 + (j : Int) := e
      omega
    have ev : cnV v x = v j := by
      unfold cnV
      rw [if_pos (by omega), e2, Int.toNat_natCast]
    rw [ev] at fin ⊢
    clear ev e e2 ex hx hj
    match j, hj2 with
    | 0, _ => exact ⟨k, fin ((congrArg Int64.toInt32 v0).trans (jL_I _))⟩
    | 1, _ => exact ⟨k, fin v1⟩
    | 2, _ => exact ⟨k, fin v2⟩
    | 3, _ => exact ⟨k, fin v3⟩
    | 4, _ =>
      refine ⟨k, fun c => ?_, fun c => ?_⟩
      · have c' : hI h 1412 15 = 0 := c
        rw [v2, jI_eq0 (by omega) (by omega)] at c'
        exact fin (by rw [v4 c'])
      · have c' : ¬ hI h 1412 15 = 0 := c
        rw [v2, jI_eq0 (by omega) (by omega)] at c'
        obtain ⟨g, g1, g2, g3⟩ := v4' c'
        refine ⟨k, _, L.R 1412 9 _ rfl, k, _, L.R 1412 16 _ rfl, Or.inl (L.K 1421 rfl), ?_, Or.inl (L.K 1417 rfl), ?_, fin ?_⟩
        · show vp_in (jI 0) (hN h 1421)
          rw [show hN h 1421 = 8 from L.N 1420 rfl]
          exact jI_in (by omega) (by omega) (by omega)
        · show vp_in (hI h 1421 0) (hN h 1417)
          rw [g2, show hN h 1417 = 4096 from L.N 1416 rfl]
          exact jI_in (by omega) (by omega) (by omega)
        · show hI h 1417 (hI h 1421 0).toNatClampNeg = _
          rw [g2, jI_nat (by omega) (by omega), Int.toNat_natCast]
          exact g3
    | 5, _ => exact ⟨k, fin v5⟩
    | 6, _ => exact ⟨k, fin v6⟩
    | 7, _ =>
      rw [v0'] at v0
      have v0a : hJ (sI h 1412 0 (jI 0)) 1412 1 = jL d := v0
      refine ⟨k, fun c => ⟨k, fun c2 => fin ?_, fun c2 => ⟨k, fun c3 => fin ?_, fun c3 => fin ?_⟩⟩, fun c => fin ?_⟩
      · rw [v0a] at c c2
        simp (disch := omega) only [mj_lcm, jI_lt, jI_le, jI_eq, jL_lt, jL_le, jL_eq, jI_lt0, jI_0le, jI_0lt, jI_le0, jI_eq0, jL_eq0, jI_L, jI_add, jI_sub, jI_mul, jI_neg, jL_add, jL_sub, jL_mul, jL_neg, jL_I, jI_div, jI_mod, jL_div, jL_mod] at c c2
        rw [v7, if_neg (by omega), if_pos c2]
      · rw [v0a] at c c2 c3
        simp (disch := omega) only [mj_lcm, jI_lt, jI_le, jI_eq, jL_lt, jL_le, jL_eq, jI_lt0, jI_0le, jI_0lt, jI_le0, jI_eq0, jL_eq0, jI_L, jI_add, jI_sub, jI_mul, jI_neg, jL_add, jL_sub, jL_mul, jL_neg, jL_I, jI_div, jI_mod, jL_div, jL_mod] at c c2 c3
        rw [v7, if_neg (by omega), if_neg c2, if_pos c3]
      · rw [v0a] at c c2 c3
        simp (disch := omega) only [mj_lcm, jI_lt, jI_le, jI_eq, jL_lt, jL_le, jL_eq, jI_lt0, jI_0le, jI_0lt, jI_le0, jI_eq0, jL_eq0, jI_L, jI_add, jI_sub, jI_mul, jI_neg, jL_add, jL_sub, jL_mul, jL_neg, jL_I, jI_div, jI_mod, jL_div, jL_mod] at c c2 c3
        rw [v7, if_neg (by omega), if_neg c2, if_neg c3]
      · rw [v0a] at c
        simp (disch := omega) only [mj_lcm, jI_lt, jI_le, jI_eq, jL_lt, jL_le, jL_eq, jI_lt0, jI_0le, jI_0lt, jI_le0, jI_eq0, jL_eq0, jI_L, jI_add, jI_sub, jI_mul, jI_neg, jL_add, jL_sub, jL_mul, jL_neg, jL_I, jI_div, jI_mod, jL_div, jL_mod] at c
        rw [v7, if_pos (by omega)]
    | 8, _ =>
      refine ⟨k, fun c => fin ?_, fun c => fin ?_⟩
      · have c' : hI h 1412 19 = 0 := c
        rw [v8, jI_eq0 (by omega) (by omega)] at c'
        rw [c']
      · have c' : ¬ hI h 1412 19 = 0 := c
        rw [v8, jI_eq0 (by omega) (by omega)] at c'
        rw [show v 8 = 1 by omega]
    | 9, _ => exact ⟨k, fin v9⟩
    | 10, _ => exact ⟨k, fin v10⟩
    | 11, _ => exact ⟨k, fin v11⟩
    | 12, _ => exact ⟨k, fin v12⟩
    | 13, _ => exact ⟨k, fin v13⟩
    | 14, _ => exact ⟨k, fin v14⟩
    | j + 15, h9 => exact absurd h9 (by omega)
