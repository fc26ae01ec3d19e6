/-! the house: numbers that are told, and counts -/
/-- the numbers of the house -/
def isNu (h : mj_H) (m : mxI) (v : Nat → Int) (f : Nat) (P : Nat → xI) : Prop := isM h 99 m ∧ (isW h 30 (v 0) ∧ isW h 32 (v 1) ∧ isW h 34 (v 2) ∧ isW h 36 (v 3) ∧ isW h 38 (v 4) ∧ isW h 40 (v 5) ∧ isW h 42 (v 6) ∧ isW h 44 (v 7)) ∧ (hI h 1 18 = jI f ∧ f ≤ 256) ∧ ∀ j, j < f → isQ h (132 + 5 * j) (P j)
def nuV (m : mxI) (v : Nat → Int) (P : Nat → xI) : Nat → Int
  | 0 => m.2.2.2
  | 1 => m.2.1
  | 2 => m.2.2.1
  | 3 => m.1
  | 4 => v 0
  | 5 => v 1
  | 6 => v 6
  | 7 => v 7
  | 8 => v 2
  | 9 => v 3
  | 10 => v 4
  | 11 => v 5
  | i + 12 => if i % 2 = 0 then (P (i / 2)).1 else (P (i / 2)).2
/-- it returns a number -/
def jN (v : Int) (h : mj_H) : mj_Q := fun o h' => h' = h ∧ ∃ a, o = .returned (some (.ref a)) ∧ isW h a v
theorem isLay.q {h : mj_H} (L : isLay h) {j : Nat} (hj : j < 256) : hR h 127 j = some (132 + 5 * j) := by
  refine L.2 127 j _ ?_
  show lyRf 127 j = some (132 + 5 * j)
  unfold lyRf
  rw [show Nat.beq 127 127 = true from rfl]
  have : Nat.blt j 256 = true := by
    rw [Nat.blt_eq]
    exact hj
  simp only [this]
/-- FormHouse.numberAt(I)LFormHouse$Whole;; cuts at [] -/
def cl_180_3 : List mj_E := (186, false, .aload_n 0, 1, 0, 0, 0, 0, 0) ::
  (187, false, .getfield 102, 3, 0, 15, 2, 0, 0) ::
  (190, false, .iload_n 1, 1, 0, 0, 0, 0, 0) ::
  (191, false, .bipush 12, 2, 0, 0, 0, jI 12, 0) ::
  (193, false, .isub, 1, 0, 0, 0, 0, 0) ::
  (194, false, .iconst 2, 1, 0, 0, 0, jI 2, 0) ::
  (195, false, .idiv, 1, 0, 0, 0, 0, 0) ::
  (196, false, .aaload, 1, 0, 0, 0, 0, 0) ::
  (197, false, .getfield 391, 3, 16, 1, 2, 0, 0) ::
  (200, false, .areturn, 1, 0, 0, 0, 0, 0) ::
  []
def cl_180_2 : List mj_E := (148, false, .aaload, 1, 0, 0, 0, 0, 0) ::
  (149, false, .areturn, 1, 0, 0, 0, 0, 0) ::
  (150, false, .aload_n 0, 1, 0, 0, 0, 0, 0) ::
  (151, false, .getfield 24, 3, 0, 0, 2, 0, 0) ::
  (154, false, .getfield 197, 3, 1, 8, 2, 0, 0) ::
  (157, false, .iload_n 1, 1, 0, 0, 0, 0, 0) ::
  (158, false, .bipush 6, 2, 0, 0, 0, jI 6, 0) ::
  (160, false, .isub, 1, 0, 0, 0, 0, 0) ::
  (161, false, .aaload, 1, 0, 0, 0, 0, 0) ::
  (162, false, .areturn, 1, 0, 0, 0, 0, 0) ::
  (163, false, .iload_n 1, 1, 0, 0, 0, 0, 0) ::
  (164, false, .iconst 2, 1, 0, 0, 0, jI 2, 0) ::
  (165, false, .irem, 1, 0, 0, 0, 0, 0) ::
  (166, false, .ifCond .ne 20, 3, 72, 0, 0, 0, 0) ::
  (169, false, .aload_n 0, 1, 0, 0, 0, 0, 0) ::
  (170, false, .getfield 102, 3, 0, 15, 2, 0, 0) ::
  (173, false, .iload_n 1, 1, 0, 0, 0, 0, 0) ::
  (174, false, .bipush 12, 2, 0, 0, 0, jI 12, 0) ::
  (176, false, .isub, 1, 0, 0, 0, 0, 0) ::
  (177, false, .iconst 2, 1, 0, 0, 0, jI 2, 0) ::
  (178, false, .idiv, 1, 0, 0, 0, 0, 0) ::
  (179, false, .aaload, 1, 0, 0, 0, 0, 0) ::
  (180, false, .getfield 388, 3, 16, 0, 2, 0, 0) ::
  (183, false, .goto 17, 3, 81, 0, 0, 0, 0) ::
  cl_180_3
def cl_180_1 : List mj_E := (104, false, .getfield 385, 3, 4, 0, 2, 0, 0) ::
  (107, false, .areturn, 1, 0, 0, 0, 0, 0) ::
  (108, false, .aload_n 0, 1, 0, 0, 0, 0, 0) ::
  (109, false, .getfield 24, 3, 0, 0, 2, 0, 0) ::
  (112, false, .getfield 197, 3, 1, 8, 2, 0, 0) ::
  (115, false, .iconst 0, 1, 0, 0, 0, jI 0, 0) ::
  (116, false, .aaload, 1, 0, 0, 0, 0, 0) ::
  (117, false, .areturn, 1, 0, 0, 0, 0, 0) ::
  (118, false, .aload_n 0, 1, 0, 0, 0, 0, 0) ::
  (119, false, .getfield 24, 3, 0, 0, 2, 0, 0) ::
  (122, false, .getfield 197, 3, 1, 8, 2, 0, 0) ::
  (125, false, .iconst 1, 1, 0, 0, 0, jI 1, 0) ::
  (126, false, .aaload, 1, 0, 0, 0, 0, 0) ::
  (127, false, .areturn, 1, 0, 0, 0, 0, 0) ::
  (128, false, .aload_n 0, 1, 0, 0, 0, 0, 0) ::
  (129, false, .getfield 24, 3, 0, 0, 2, 0, 0) ::
  (132, false, .getfield 197, 3, 1, 8, 2, 0, 0) ::
  (135, false, .bipush 6, 2, 0, 0, 0, jI 6, 0) ::
  (137, false, .aaload, 1, 0, 0, 0, 0, 0) ::
  (138, false, .areturn, 1, 0, 0, 0, 0, 0) ::
  (139, false, .aload_n 0, 1, 0, 0, 0, 0, 0) ::
  (140, false, .getfield 24, 3, 0, 0, 2, 0, 0) ::
  (143, false, .getfield 197, 3, 1, 8, 2, 0, 0) ::
  (146, false, .bipush 7, 2, 0, 0, 0, jI 7, 0) ::
  cl_180_2
def cl_180_0 : List mj_E := (0, false, .iload_n 1, 1, 0, 0, 0, 0, 0) ::
  (1, false, .bipush 12, 2, 0, 0, 0, jI 12, 0) ::
  (3, false, .iconst 2, 1, 0, 0, 0, jI 2, 0) ::
  (4, false, .aload_n 0, 1, 0, 0, 0, 0, 0) ::
  (5, false, .getfield 215, 3, 0, 18, 0, 0, 0) ::
  (8, false, .imul, 1, 0, 0, 0, 0, 0) ::
  (9, false, .iadd, 1, 0, 0, 0, 0, 0) ::
  (10, false, .invokestatic 218, 3, 104, 2, 0, 0, 0) ::
  (13, false, .iload_n 1, 1, 0, 0, 0, 0, 0) ::
  (14, false, .tableswitch 149 0 11 #[62, 70, 78, 86, 94, 104, 114, 125, 136, 136, 136, 136], 62, 58, 0, 0, 0, 0) ::
  (76, false, .aload_n 0, 1, 0, 0, 0, 0, 0) ::
  (77, false, .getfield 87, 3, 0, 11, 2, 0, 0) ::
  (80, false, .getfield 375, 3, 4, 3, 2, 0, 0) ::
  (83, false, .areturn, 1, 0, 0, 0, 0, 0) ::
  (84, false, .aload_n 0, 1, 0, 0, 0, 0, 0) ::
  (85, false, .getfield 87, 3, 0, 11, 2, 0, 0) ::
  (88, false, .getfield 379, 3, 4, 1, 2, 0, 0) ::
  (91, false, .areturn, 1, 0, 0, 0, 0, 0) ::
  (92, false, .aload_n 0, 1, 0, 0, 0, 0, 0) ::
  (93, false, .getfield 87, 3, 0, 11, 2, 0, 0) ::
  (96, false, .getfield 382, 3, 4, 2, 2, 0, 0) ::
  (99, false, .areturn, 1, 0, 0, 0, 0, 0) ::
  (100, false, .aload_n 0, 1, 0, 0, 0, 0, 0) ::
  (101, false, .getfield 87, 3, 0, 11, 2, 0, 0) ::
  cl_180_1
def cd_180 : List mj_E := cl_180_0
def cx_180 : mj_X := (3, [], [10, 14, 18, 22, 26, 32, 38, 44, 50, 50, 50, 50])
theorem tb_180 : mj_tab (mj_mt 180) cx_180 cd_180 mj_mh [(0, 0, 0), (0, 0, 0), (0, 0, 0), (0, 0, 0), (4221, 0, 0), (0, 0, 0), (0, 0, 0), (5077, 0, 0), (0, 0, 0), (0, 0, 0), (0, 0, 0), (4214, 0, 0), (1134, 0, 0), (0, 0, 0), (0, 0, 0), (4214, 0, 0), (1126, 0, 0), (0, 0, 0), (0, 0, 0), (4214, 0, 0), (1130, 0, 0), (0, 0, 0), (0, 0, 0), (4214, 0, 0), (1123, 0, 0), (0, 0, 0), (0, 0, 0), (4203, 0, 0), (1200, 0, 0), (0, 0, 0), (0, 0, 0), (0, 0, 0), (0, 0, 0), (4203, 0, 0), (1200, 0, 0), (0, 0, 0), (0, 0, 0), (0, 0, 0), (0, 0, 0), (4203, 0, 0), (1200, 0, 0), (0, 0, 0), (0, 0, 0), (0, 0, 0), (0, 0, 0), (4203, 0, 0), (1200, 0, 0), (0, 0, 0), (0, 0, 0), (0, 0, 0), (0, 0, 0), (4203, 0, 0), (1200, 0, 0), (0, 0, 0), (0, 0, 0), (0, 0, 0), (0, 0, 0), (0, 0, 0), (0, 0, 0), (0, 0, 0), (0, 0, 0), (0, 0, 0), (0, 0, 0), (4218, 0, 0), (0, 0, 0), (0, 0, 0), (0, 0, 0), (0, 0, 0), (0, 0, 0), (0, 0, 0), (3016, 0, 0), (0, 0, 0), (0, 0, 0), (4218, 0, 0), (0, 0, 0), (0, 0, 0), (0, 0, 0), (0, 0, 0), (0, 0, 0), (0, 0, 0), (3019, 0, 0), (0, 0, 0)] = true := mj_tab_f (by decide +kernel)
theorem ct_180a (G : mj_G) {h : mj_H} (L : isLay h) {m : mxI} {v : Nat → Int} {f : Nat} {P : Nat → xI} (hN : isNu h m v f P) {i : Int} (hi : -2147483648 ≤ i ∧ i < 2147483648) (ok : 0 ≤ i ∧ i < 12 + 2 * (f : Int)) : mj_Ct G (mj_mt 180) 0 0 [.ref 1, .int (jI i)] h (jN (nuV m v P i.toNat) h) := by
  obtain ⟨⟨a, b, c, e, ⟨m0, ra, rb, rc, re, -⟩, wa, wb, wc, we⟩, ⟨w0, w1, w2, w3, w4, w5, w6, w7⟩, ⟨hf, hfb⟩, hq⟩ := hN
  have c4 := ct_104a G hi (n := 12 + 2 * (f : Int)) (by omega) ok h
  have ef : jI 12 + jI 2 * hI h 1 18 = jI (12 + 2 * (f : Int)) := by rw [hf, jI_mul, jI_add]
  rw [← ef] at c4
  have ex := jI_to hi.1 hi.2
  have vin : ∀ {k : Nat}, k < 8 → vp_in (jI (k : Int)) (hN h 29) := by
    intro k hk
    rw [show hN h 29 = 8 from L.N 28 rfl]
    exact jI_in (by omega) (by omega) (by omega)
  refine mj_Ct_of mj_ok tb_180 rfl rfl (Nat.le_of_ble_eq_true rfl) (fun Run hR => ?_)
  refine hR 60 0 _ _ _ _ _ _ rfl ?_
  refine ⟨L.K 1 rfl, jcallV c4 ⟨fun c => ?_, fun j hj ej => ?_⟩⟩
  · rw [ex] at c
    have hi2 : 12 ≤ i := by
      have c1 : i < 0 ∨ 11 < i := c
      omega
    obtain ⟨k, hk⟩ : ∃ k : Nat, i = 12 + (k : Int) := ⟨(i - 12).toNat, by omega⟩
    have e1 : nuV m v P i.toNat = if k % 2 = 0 then (P (k / 2)).1 else (P (k / 2)).2 := by
      rw [show i.toNat = k + 12 by omega]
      rfl
    have em : jI i % jI 2 = jI ((k % 2 : Nat) : Int) := by
      rw [jI_mod (by omega) (by omega) (by omega) (by omega)]
      congr 1
      rw [Int.tmod_eq_emod_of_nonneg (by omega)]
      omega
    have ix : (jI i - jI 12) / jI 2 = jI ((k / 2 : Nat) : Int) := by
      rw [jI_sub, jI_div (by omega) (by omega) (by omega) (by omega)]
      congr 1
      rw [Int.tdiv_eq_ediv_of_nonneg (by omega)]
      omega
    have vq : vp_in ((jI i - jI 12) / jI 2) (hN h 127) := by
      rw [ix, show hN h 127 = 256 from L.N 126 rfl]
      exact jI_in (by omega) (by omega) (by omega)
    have rq : h.2.2.1 127 ((jI i - jI 12) / jI 2).toNatClampNeg = some (132 + 5 * (k / 2)) := by
      rw [ix, jI_nat (by omega) (by omega), Int.toNat_natCast]
      exact L.q (by omega)
    obtain ⟨⟨q0, q1, q2, -, -⟩, qx, qy⟩ := hq (k / 2) (by omega)
    refine ⟨by decide, fun c => ?_, fun c => ?_⟩
    · have c' : jI i % jI 2 = 0 := c
      rw [em, jI_eq0 (by omega) (by omega)] at c'
      refine ⟨L.K 1 rfl, _, L.R 1 15 _ rfl, by decide, Or.inr (L.K 127 rfl), vq, _, rq, q0, _, q1, rfl, _, rfl, ?_⟩
      rw [e1, if_pos (by omega)]
      exact qx
    · have c' : ¬ jI i % jI 2 = 0 := c
      rw [em, jI_eq0 (by omega) (by omega)] at c'
      refine ⟨L.K 1 rfl, _, L.R 1 15 _ rfl, by decide, Or.inr (L.K 127 rfl), vq, _, rq, q0, _, q2, rfl, _, rfl, ?_⟩
      rw [e1, if_neg (by omega)]
      exact qy
  · rw [ex] at ej
    have hj2 : j ≤ 11 := hj
    have e2 : i = (j : Int) := by
      have : i = 0 + (j : Int) := ej
      omega
    have e3 : i.toNat = j := by omega
    rw [e3]
    have sub6 : ∀ {k : Nat}, j = k + 6 → jI i - jI 6 = jI (k : Int) := by
      intro k hk
      rw [jI_sub]
      congr 1
      omega
    clear ej e3 ex hj c4 ef
    match j, hj2 with
    | 0, _ => exact ⟨L.K 1 rfl, _, L.R 1 11 _ rfl, L.K 99 rfl, _, re, rfl, _, rfl, we⟩
    | 1, _ => exact ⟨L.K 1 rfl, _, L.R 1 11 _ rfl, L.K 99 rfl, _, rb, rfl, _, rfl, wb⟩
    | 2, _ => exact ⟨L.K 1 rfl, _, L.R 1 11 _ rfl, L.K 99 rfl, _, rc, rfl, _, rfl, wc⟩
    | 3, _ => exact ⟨L.K 1 rfl, _, L.R 1 11 _ rfl, L.K 99 rfl, _, ra, rfl, _, rfl, wa⟩
    | 4, _ => exact ⟨L.K 1 rfl, _, L.R 1 0 _ rfl, L.K 2 rfl, _, L.R 2 8 _ rfl, Or.inl (L.K 29 rfl), vin (k := 0) (by decide), _, L.R 29 0 _ rfl, rfl, _, rfl, w0⟩
    | 5, _ => exact ⟨L.K 1 rfl, _, L.R 1 0 _ rfl, L.K 2 rfl, _, L.R 2 8 _ rfl, Or.inl (L.K 29 rfl), vin (k := 1) (by decide), _, L.R 29 1 _ rfl, rfl, _, rfl, w1⟩
    | 6, _ => exact ⟨L.K 1 rfl, _, L.R 1 0 _ rfl, L.K 2 rfl, _, L.R 2 8 _ rfl, Or.inl (L.K 29 rfl), vin (k := 6) (by decide), _, L.R 29 6 _ rfl, rfl, _, rfl, w6⟩
    | 7, _ => exact ⟨L.K 1 rfl, _, L.R 1 0 _ rfl, L.K 2 rfl, _, L.R 2 8 _ rfl, Or.inl (L.K 29 rfl), vin (k := 7) (by decide), _, L.R 29 7 _ rfl, rfl, _, rfl, w7⟩
    | 8, _ =>
      have e6 := sub6 (k := 2) rfl
      refine ⟨L.K 1 rfl, _, L.R 1 0 _ rfl, L.K 2 rfl, _, L.R 2 8 _ rfl, Or.inl (L.K 29 rfl), ?_, 34, ?_, rfl, _, rfl, w2⟩
      · show vp_in (jI i - jI 6) _
        rw [e6]
        exact vin (by decide)
      · show h.2.2.1 29 (jI i - jI 6).toNatClampNeg = _
        rw [e6]
        exact L.R 29 2 _ rfl
    | 9, _ =>
      have e6 := sub6 (k := 3) rfl
      refine ⟨L.K 1 rfl, _, L.R 1 0 _ rfl, L.K 2 rfl, _, L.R 2 8 _ rfl, Or.inl (L.K 29 rfl), ?_, 36, ?_, rfl, _, rfl, w3⟩
      · show vp_in (jI i - jI 6) _
        rw [e6]
        exact vin (by decide)
      · show h.2.2.1 29 (jI i - jI 6).toNatClampNeg = _
        rw [e6]
        exact L.R 29 3 _ rfl
    | 10, _ =>
      have e6 := sub6 (k := 4) rfl
      refine ⟨L.K 1 rfl, _, L.R 1 0 _ rfl, L.K 2 rfl, _, L.R 2 8 _ rfl, Or.inl (L.K 29 rfl), ?_, 38, ?_, rfl, _, rfl, w4⟩
      · show vp_in (jI i - jI 6) _
        rw [e6]
        exact vin (by decide)
      · show h.2.2.1 29 (jI i - jI 6).toNatClampNeg = _
        rw [e6]
        exact L.R 29 4 _ rfl
    | 11, _ =>
      have e6 := sub6 (k := 5) rfl
      refine ⟨L.K 1 rfl, _, L.R 1 0 _ rfl, L.K 2 rfl, _, L.R 2 8 _ rfl, Or.inl (L.K 29 rfl), ?_, 40, ?_, rfl, _, rfl, w5⟩
      · show vp_in (jI i - jI 6) _
        rw [e6]
        exact vin (by decide)
      · show h.2.2.1 29 (jI i - jI 6).toNatClampNeg = _
        rw [e6]
        exact L.R 29 5 _ rfl
    | j + 12, h9 => exact absurd h9 (by omega)
theorem ct_180b (G : mj_G) {h : mj_H} (L : isLay h) {f : Nat} (hf : hI h 1 18 = jI f) (hfb : f ≤ 256) {i : Int} (hi : -2147483648 ≤ i ∧ i < 2147483648) (ok : ¬ (0 ≤ i ∧ i < 12 + 2 * (f : Int))) : mj_Ct G (mj_mt 180) 1 6 [.ref 1, .int (jI i)] h (jE 81 h) := by
  have c4 := ct_104b G hi (n := 12 + 2 * (f : Int)) (by omega) ok h
  have ef : jI 12 + jI 2 * hI h 1 18 = jI (12 + 2 * (f : Int)) := by rw [hf, jI_mul, jI_add]
  rw [← ef] at c4
  refine mj_Ct_of mj_ok tb_180 rfl rfl (Nat.le_of_ble_eq_true rfl) (fun Run hR => ?_)
  refine hR 60 0 _ _ _ _ _ _ rfl ?_
  exact ⟨L.K 1 rfl, jcallE c4 (jE0 _ _)⟩
/-- the sign by which a number is told -/
def tnS (i : Int) (v : Int) : Int := if i = 1 ∨ i = 2 then -v else v
/-- FormHouse.sign(I)I; cuts at [8, 9] -/
def cd_179 : List mj_E := [(0, false, .aload_n 0, 1, 0, 0, 0, 0, 0),
  (1, false, .iload_n 1, 1, 0, 0, 0, 0, 0),
  (2, false, .invokevirtual 394, 3, 180, 1, 0, 0, 0),
  (5, false, .getfield 201, 3, 5, 2, 0, 0, 0),
  (8, true, .istore_n 2, 1, 0, 0, 0, 0, 0),
  (9, true, .iload_n 1, 1, 0, 0, 0, 0, 0),
  (10, false, .invokestatic 398, 3, 181, 1, 0, 0, 0),
  (13, false, .ifCond .eq 8, 3, 11, 0, 0, 0, 0),
  (16, false, .iload_n 2, 1, 0, 0, 0, 0, 0),
  (17, false, .ineg, 1, 0, 0, 0, 0, 0),
  (18, false, .goto 4, 3, 12, 0, 0, 0, 0),
  (21, false, .iload_n 2, 1, 0, 0, 0, 0, 0),
  (22, false, .ireturn, 1, 0, 0, 0, 0, 0)]
def cx_179 : mj_X := (1, [], [])
theorem tb_179 : mj_tab (mj_mt 179) cx_179 cd_179 mj_mh [(0, 0, 0), (0, 0, 0), (6161, 0, 0), (1112, 0, 0), (0, 0, 0), (0, 0, 0), (6165, 0, 0), (0, 0, 0), (0, 0, 0), (0, 0, 0), (0, 0, 0), (0, 0, 0), (0, 0, 0)] = true := mj_tab_f (by decide +kernel)
theorem ct_179 (G : mj_G) {h : mj_H} (L : isLay h) {m : mxI} {v : Nat → Int} {f : Nat} {P : Nat → xI} (hN : isNu h m v f P) {i : Int} (hi : -2147483648 ≤ i ∧ i < 2147483648) : mj_Ct G (mj_mt 179) 1 6 [.ref 1, .int (jI i)] h (fun o h' => (0 ≤ i ∧ i < 12 + 2 * (f : Int) → jC noT noT (tnS i (nuV m v P i.toNat).sign) h o h') ∧ (¬ (0 ≤ i ∧ i < 12 + 2 * (f : Int)) → jX noT noT 81 h o h')) := by
  refine mj_Ct_of mj_ok tb_179 rfl rfl (Nat.le_of_ble_eq_true rfl) (fun Run hR => ?_)
  by_cases zi : 0 ≤ i ∧ i < 12 + 2 * (f : Int)
  · have r9 : ∀ (sI : Int32), sI = jI (nuV m v P i.toNat).sign → Run 9 [some (.ref 1), some (.int (jI i)), some (.int sI)] [] h (1, 6) := by
      rintro sI rfl
      refine hR 60 5 _ _ _ _ _ _ rfl ?_
      refine jcall (ct_181 G hi.1 hi.2 h) ?_
      by_cases z : i = 1 ∨ i = 2
      · rw [if_pos z]
        refine ⟨fun c => absurd c (by decide), fun _ => ⟨fun _ => ⟨?_, Fr.refl _ _ h⟩, fun y => absurd zi y⟩⟩
        unfold tnS
        rw [if_pos z, jI_neg]
      · rw [if_neg z]
        refine ⟨fun _ => ⟨fun _ => ⟨?_, Fr.refl _ _ h⟩, fun y => absurd zi y⟩, fun c => absurd rfl c⟩
        unfold tnS
        rw [if_neg z]
    have r8 : ∀ (sI : Int32) (x2 : Option Value), sI = jI (nuV m v P i.toNat).sign → Run 8 [some (.ref 1), some (.int (jI i)), x2] [.int sI] h (1, 6) := by
      intro sI x2 e
      refine hR 60 4 _ _ _ _ _ _ rfl ?_
      exact r9 _ e
    refine hR 60 0 _ _ _ _ _ _ rfl ?_
    refine ⟨L.K 1 rfl, jcallP (ct_180a G L hN hi zi) ?_⟩
    rintro o h' ⟨rfl, a, rfl, ha⟩
    exact ⟨ha.1.1, r8 _ _ ha.sg⟩
  · refine hR 60 0 _ _ _ _ _ _ rfl ?_
    exact ⟨L.K 1 rfl, jcallE (ct_180b G L hN.2.2.1.1 hN.2.2.1.2 hi zi) ⟨fun z => absurd z zi, fun _ => ⟨h, Fr.refl _ _ h, rfl, rfl⟩⟩⟩
/-- how many bits a number has -/
def isBt (v : Int) (s : Nat) : Prop := (v = 0 ∧ s = 0) ∨ (0 < s ∧ 2 ^ (s - 1) ≤ v.natAbs ∧ v.natAbs < 2 ^ s)
/-- FormHouse.bits(I)I; cuts at [] -/
def cd_183 : List mj_E := [(0, false, .aload_n 0, 1, 0, 0, 0, 0, 0),
  (1, false, .iload_n 1, 1, 0, 0, 0, 0, 0),
  (2, false, .invokevirtual 394, 3, 180, 1, 0, 0, 0),
  (5, false, .invokevirtual 401, 3, 184, 0, 5, 0, 0),
  (8, false, .ireturn, 1, 0, 0, 0, 0, 0)]
def cx_183 : mj_X := (1, [], [])
theorem tb_183 : mj_tab (mj_mt 183) cx_183 cd_183 mj_mh [(0, 0, 0), (0, 0, 0), (6161, 0, 0), (6175, 0, 0), (0, 0, 0)] = true := mj_tab_f (by decide +kernel)
theorem ct_183 (G : mj_G) {h : mj_H} (L : isLay h) {m : mxI} {v : Nat → Int} {f : Nat} {P : Nat → xI} (hN : isNu h m v f P) {i : Int} (hi : -2147483648 ≤ i ∧ i < 2147483648) : mj_Ct G (mj_mt 183) 1 6 [.ref 1, .int (jI i)] h (fun o h' => (0 ≤ i ∧ i < 12 + 2 * (f : Int) → ∃ s : Nat, isBt (nuV m v P i.toNat) s ∧ jC noT noT s h o h') ∧ (¬ (0 ≤ i ∧ i < 12 + 2 * (f : Int)) → jX noT noT 81 h o h')) := by
  refine mj_Ct_of mj_ok tb_183 rfl rfl (Nat.le_of_ble_eq_true rfl) (fun Run hR => ?_)
  by_cases zi : 0 ≤ i ∧ i < 12 + 2 * (f : Int)
  · refine hR 60 0 _ _ _ _ _ _ rfl ?_
    refine ⟨L.K 1 rfl, jcallP (ct_180a G L hN hi zi) ?_⟩
    rintro o h' ⟨rfl, a, rfl, ha⟩
    refine ⟨ha.1.1, jcallP (ct_184 G ha) ?_⟩
    rintro o h' ⟨rfl, s, rfl, hs⟩
    exact ⟨fun _ => ⟨s, hs, rfl, Fr.refl _ _ _⟩, fun y => absurd zi y⟩
  · refine hR 60 0 _ _ _ _ _ _ rfl ?_
    exact ⟨L.K 1 rfl, jcallE (ct_180b G L hN.2.2.1.1 hN.2.2.1.2 hi zi) ⟨fun z => absurd z zi, fun _ => ⟨h, Fr.refl _ _ h, rfl, rfl⟩⟩⟩
theorem jI_cg {a b : Int} (h : a % 4294967296 = b % 4294967296) : jI a = jI b := by
  rw [← jI_wd (jI a), ← jI_wd (jI b), wd_jI, wd_jI, h]
theorem mag_wd (g : Nat → Int32) (n k : Nat) : (k < n → jI ((mag g n / 4294967296 ^ k : Nat) : Int) = g k) ∧ (n ≤ k → mag g n / 4294967296 ^ k = 0) := by
  refine ⟨?_, fun h => Nat.div_eq_of_lt (Nat.lt_of_lt_of_le (mag_lt g n) (Nat.pow_le_pow_right (by decide) h))⟩
  induction n with
  | zero =>
    intro h
    omega
  | succ n ih =>
    intro hk
    have e : mag g (n + 1) = mag g n + wd (g n) * 4294967296 ^ n := rfl
    by_cases z : k = n
    · subst z
      rw [e, Nat.add_mul_div_right _ _ (Nat.pow_pos (by decide)), Nat.div_eq_of_lt (mag_lt g k), Nat.zero_add, jI_wd]
    · have hp : 4294967296 ^ n = 4294967296 ^ k * (4294967296 ^ (n - k - 1) * 4294967296) := by
        rw [← Nat.pow_succ, ← Nat.pow_add]
        congr 1
        omega
      have e2 : mag g (n + 1) = mag g n + 4294967296 ^ k * (wd (g n) * 4294967296 ^ (n - k - 1) * 4294967296) := by
        rw [e, hp, Nat.mul_left_comm, Nat.mul_assoc (wd (g n))]
      rw [e2, Nat.add_mul_div_left _ _ (Nat.pow_pos (by decide)), ← ih (by omega)]
      refine jI_cg ?_
      rw [Int.natCast_add, Int.natCast_mul]
      exact Int.add_mul_emod_self_right _ _ _
/-- FormHouse.word(II)I; cuts at [5, 6] -/
def cd_186 : List mj_E := [(0, false, .aload_n 0, 1, 0, 0, 0, 0, 0),
  (1, false, .iload_n 1, 1, 0, 0, 0, 0, 0),
  (2, false, .invokevirtual 394, 3, 180, 1, 0, 0, 0),
  (5, true, .astore_n 3, 1, 0, 0, 0, 0, 0),
  (6, true, .iload_n 2, 1, 0, 0, 0, 0, 0),
  (7, false, .sipush 512, 3, 0, 0, 0, jI 512, 0),
  (10, false, .invokestatic 218, 3, 104, 2, 0, 0, 0),
  (13, false, .iload_n 2, 1, 0, 0, 0, 0, 0),
  (14, false, .aload_n 3, 1, 0, 0, 0, 0, 0),
  (15, false, .getfield 405, 3, 5, 1, 0, 0, 0),
  (18, false, .if_icmp .ge 12, 3, 16, 0, 0, 0, 0),
  (21, false, .aload_n 3, 1, 0, 0, 0, 0, 0),
  (22, false, .getfield 408, 3, 5, 0, 2, 0, 0),
  (25, false, .iload_n 2, 1, 0, 0, 0, 0, 0),
  (26, false, .iaload, 1, 0, 0, 0, 0, 0),
  (27, false, .goto 4, 3, 17, 0, 0, 0, 0),
  (30, false, .iconst 0, 1, 0, 0, 0, jI 0, 0),
  (31, false, .ireturn, 1, 0, 0, 0, 0, 0)]
def cx_186 : mj_X := (1, [], [])
theorem tb_186 : mj_tab (mj_mt 186) cx_186 cd_186 mj_mh [(0, 0, 0), (0, 0, 0), (6161, 0, 0), (0, 0, 0), (0, 0, 0), (0, 0, 0), (5077, 0, 0), (0, 0, 0), (0, 0, 0), (1106, 0, 0), (0, 0, 0), (0, 0, 0), (1101, 0, 0), (0, 0, 0), (0, 0, 0), (0, 0, 0), (0, 0, 0), (0, 0, 0)] = true := mj_tab_f (by decide +kernel)
theorem ct_186 (G : mj_G) {h : mj_H} (L : isLay h) {m : mxI} {v : Nat → Int} {f : Nat} {P : Nat → xI} (hN : isNu h m v f P) {i k : Int} (hi : -2147483648 ≤ i ∧ i < 2147483648) (hk : -2147483648 ≤ k ∧ k < 2147483648) : mj_Ct G (mj_mt 186) 1 6 [.ref 1, .int (jI i), .int (jI k)] h (fun o h' => (0 ≤ i ∧ i < 12 + 2 * (f : Int) → 0 ≤ k ∧ k < 512 → jC noT noT (((nuV m v P i.toNat).natAbs / 4294967296 ^ k.toNat : Nat) : Int) h o h') ∧ (¬ ((0 ≤ i ∧ i < 12 + 2 * (f : Int)) ∧ 0 ≤ k ∧ k < 512) → jX noT noT 81 h o h')) := by
  refine mj_Ct_of mj_ok tb_186 rfl rfl (Nat.le_of_ble_eq_true rfl) (fun Run hR => ?_)
  by_cases zi : 0 ≤ i ∧ i < 12 + 2 * (f : Int)
  · have r6 : ∀ (a : Nat), isW h a (nuV m v P i.toNat) → Run 6 [some (.ref 1), some (.int (jI i)), some (.int (jI k)), some (.ref a)] [] h (1, 6) := by
      rintro a ⟨a0, n, a1, a2, a3, a4, a5⟩
      refine hR 60 4 _ _ _ _ _ _ rfl ?_
      by_cases zk : 0 ≤ k ∧ k < 512
      · refine jcallV (ct_104a G hk (n := 512) (by omega) zk h) ?_
        have hw := mag_wd (h.1 (a + 1)) n k.toNat
        refine ⟨a0.1, fun c => ?_, fun c => ⟨a0.1, _, a0.2.1, Or.inl a0.2.2.1, ?_, ?_⟩⟩
        · rw [a2] at c
          simp (disch := omega) only [mj_lcm, jI_lt, jI_le, jI_eq, jL_lt, jL_le, jL_eq, jI_lt0, jI_0le, jI_0lt, jI_le0, jI_eq0, jL_eq0, jI_L, jI_add, jI_sub, jI_mul, jI_neg, jL_add, jL_sub, jL_mul, jL_neg, jL_I, jI_div, jI_mod, jL_div, jL_mod] at c
          refine ⟨fun _ _ => ⟨?_, Fr.refl _ _ h⟩, fun y => absurd ⟨zi, zk⟩ y⟩
          rw [a4, hw.2 (by omega)]
          rfl
        · rw [a0.2.2.2.1]
          exact jI_in (by omega) (by omega) (by omega)
        · rw [a2] at c
          simp (disch := omega) only [mj_lcm, jI_lt, jI_le, jI_eq, jL_lt, jL_le, jL_eq, jI_lt0, jI_0le, jI_0lt, jI_le0, jI_eq0, jL_eq0, jI_L, jI_add, jI_sub, jI_mul, jI_neg, jL_add, jL_sub, jL_mul, jL_neg, jL_I, jI_div, jI_mod, jL_div, jL_mod] at c
          refine ⟨fun _ _ => ⟨?_, Fr.refl _ _ h⟩, fun y => absurd ⟨zi, zk⟩ y⟩
          rw [a4, hw.1 (by omega), jI_nat zk.1 (by omega)]
      · exact jcallE (ct_104b G hk (n := 512) (by omega) zk h) ⟨fun _ z => absurd z zk, fun _ => ⟨h, Fr.refl _ _ h, rfl, rfl⟩⟩
    have r5 : ∀ (a : Nat) (x3 : Option Value), isW h a (nuV m v P i.toNat) → Run 5 [some (.ref 1), some (.int (jI i)), some (.int (jI k)), x3] [.ref a] h (1, 6) := by
      intro a x3 ha
      refine hR 60 3 _ _ _ _ _ _ rfl ?_
      exact r6 a ha
    refine hR 60 0 _ _ _ _ _ _ rfl ?_
    refine ⟨L.K 1 rfl, jcallP (ct_180a G L hN hi zi) ?_⟩
    rintro o h' ⟨rfl, a, rfl, ha⟩
    exact r5 a _ ha
  · refine hR 60 0 _ _ _ _ _ _ rfl ?_
    exact ⟨L.K 1 rfl, jcallE (ct_180b G L hN.2.2.1.1 hN.2.2.1.2 hi zi) ⟨fun z => absurd z zi, fun _ => ⟨h, Fr.refl _ _ h, rfl, rfl⟩⟩⟩
/-- the residue by which a number is told -/
def tnR (i : Int) (m v : Int) : Int := if (i = 1 ∨ i = 2) ∧ 0 < v % m then m - v % m else v % m
/-- FormHouse.residue(II)I; cuts at [5, 6, 18, 23, 25] -/
def cd_188 : List mj_E := [(0, false, .aload_n 0, 1, 0, 0, 0, 0, 0),
  (1, false, .iload_n 1, 1, 0, 0, 0, 0, 0),
  (2, false, .invokevirtual 394, 3, 180, 1, 0, 0, 0),
  (5, true, .astore_n 3, 1, 0, 0, 0, 0, 0),
  (6, true, .iload_n 2, 1, 0, 0, 0, 0, 0),
  (7, false, .ifCond .le 7, 3, 8, 0, 0, 0, 0),
  (10, false, .iconst 1, 1, 0, 0, 0, jI 1, 0),
  (11, false, .goto 4, 3, 9, 0, 0, 0, 0),
  (14, false, .iconst 0, 1, 0, 0, 0, jI 0, 0),
  (15, false, .invokestatic 166, 3, 100, 1, 0, 0, 0),
  (18, true, .aload_n 3, 1, 0, 0, 0, 0, 0),
  (19, false, .iload_n 2, 1, 0, 0, 0, 0, 0),
  (20, false, .invokevirtual 411, 3, 189, 1, 5, 0, 0),
  (23, true, .istore 4, 2, 0, 0, 0, 0, 0),
  (25, true, .iload_n 1, 1, 0, 0, 0, 0, 0),
  (26, false, .invokestatic 398, 3, 181, 1, 0, 0, 0),
  (29, false, .ifCond .eq 15, 3, 23, 0, 0, 0, 0),
  (32, false, .iload 4, 2, 0, 0, 0, 0, 0),
  (34, false, .ifCond .le 10, 3, 23, 0, 0, 0, 0),
  (37, false, .iload_n 2, 1, 0, 0, 0, 0, 0),
  (38, false, .iload 4, 2, 0, 0, 0, 0, 0),
  (40, false, .isub, 1, 0, 0, 0, 0, 0),
  (41, false, .goto 5, 3, 24, 0, 0, 0, 0),
  (44, false, .iload 4, 2, 0, 0, 0, 0, 0),
  (46, false, .ireturn, 1, 0, 0, 0, 0, 0)]
def cx_188 : mj_X := (1, [], [])
theorem tb_188 : mj_tab (mj_mt 188) cx_188 cd_188 mj_mh [(0, 0, 0), (0, 0, 0), (6161, 0, 0), (0, 0, 0), (0, 0, 0), (0, 0, 0), (0, 0, 0), (0, 0, 0), (0, 0, 0), (5051, 0, 0), (0, 0, 0), (0, 0, 0), (6194, 0, 0), (0, 0, 0), (0, 0, 0), (6165, 0, 0), (0, 0, 0), (0, 0, 0), (0, 0, 0), (0, 0, 0), (0, 0, 0), (0, 0, 0), (0, 0, 0), (0, 0, 0), (0, 0, 0)] = true := mj_tab_f (by decide +kernel)
theorem ct_188 (G : mj_G) {h : mj_H} (L : isLay h) {mx : mxI} {v : Nat → Int} {f : Nat} {P : Nat → xI} (hN : isNu h mx v f P) {i m : Int} (hi : -2147483648 ≤ i ∧ i < 2147483648) (hm : -2147483648 ≤ m ∧ m < 2147483648) : mj_Ct G (mj_mt 188) 1 6 [.ref 1, .int (jI i), .int (jI m)] h (fun o h' => (0 ≤ i ∧ i < 12 + 2 * (f : Int) → (0 < m → jC noT noT (tnR i m (nuV mx v P i.toNat)) h o h') ∧ (¬ 0 < m → jX noT noT 80 h o h')) ∧ (¬ (0 ≤ i ∧ i < 12 + 2 * (f : Int)) → jX noT noT 81 h o h')) := by
  refine mj_Ct_of mj_ok tb_188 rfl rfl (Nat.le_of_ble_eq_true rfl) (fun Run hR => ?_)
  by_cases zi : 0 ≤ i ∧ i < 12 + 2 * (f : Int)
  · obtain ⟨u, hu⟩ : ∃ u, u = nuV mx v P i.toNat := ⟨_, rfl⟩
    have r25 : 0 < m → ∀ (a : Nat) (rI : Int32), rI = jI (u % m) → Run 25 [some (.ref 1), some (.int (jI i)), some (.int (jI m)), some (.ref a), some (.int rI)] [] h (1, 6) := by
      rintro hm0 a rI rfl
      have h1 := Int.emod_nonneg u (show m ≠ 0 by omega)
      have h2 := Int.emod_lt_of_pos u hm0
      refine hR 60 14 _ _ _ _ _ _ rfl ?_
      refine jcall (ct_181 G hi.1 hi.2 h) ?_
      by_cases z : i = 1 ∨ i = 2
      · rw [if_pos z]
        refine ⟨fun c => absurd c (by decide), fun _ => ⟨fun c => ?_, fun c => ?_⟩⟩
        · simp (disch := omega) only [mj_lcm, jI_lt, jI_le, jI_eq, jL_lt, jL_le, jL_eq, jI_lt0, jI_0le, jI_0lt, jI_le0, jI_eq0, jL_eq0, jI_L, jI_add, jI_sub, jI_mul, jI_neg, jL_add, jL_sub, jL_mul, jL_neg, jL_I, jI_div, jI_mod, jL_div, jL_mod] at c
          refine ⟨fun _ => ⟨fun _ => ⟨?_, Fr.refl _ _ h⟩, fun y => absurd hm0 y⟩, fun y => absurd zi y⟩
          unfold tnR
          rw [← hu, if_neg (fun y => by omega)]
        · simp (disch := omega) only [mj_lcm, jI_lt, jI_le, jI_eq, jL_lt, jL_le, jL_eq, jI_lt0, jI_0le, jI_0lt, jI_le0, jI_eq0, jL_eq0, jI_L, jI_add, jI_sub, jI_mul, jI_neg, jL_add, jL_sub, jL_mul, jL_neg, jL_I, jI_div, jI_mod, jL_div, jL_mod] at c
          refine ⟨fun _ => ⟨fun _ => ⟨?_, Fr.refl _ _ h⟩, fun y => absurd hm0 y⟩, fun y => absurd zi y⟩
          unfold tnR
          rw [← hu, if_pos ⟨z, by omega⟩, jI_sub]
      · rw [if_neg z]
        refine ⟨fun _ => ⟨fun _ => ⟨fun _ => ⟨?_, Fr.refl _ _ h⟩, fun y => absurd hm0 y⟩, fun y => absurd zi y⟩, fun c => absurd rfl c⟩
        unfold tnR
        rw [← hu, if_neg (fun y => z y.1)]
    have r23 : 0 < m → ∀ (a : Nat) (rI : Int32) (x4 : Option Value), rI = jI (u % m) → Run 23 [some (.ref 1), some (.int (jI i)), some (.int (jI m)), some (.ref a), x4] [.int rI] h (1, 6) := by
      intro hm0 a rI x4 e
      refine hR 60 13 _ _ _ _ _ _ rfl ?_
      exact r25 hm0 a _ e
    have r18 : 0 < m → ∀ (a : Nat) (x4 : Option Value), isW h a u → Run 18 [some (.ref 1), some (.int (jI i)), some (.int (jI m)), some (.ref a), x4] [] h (1, 6) := by
      intro hm0 a x4 ha
      refine hR 60 10 _ _ _ _ _ _ rfl ?_
      exact ⟨ha.1.1, jcall (ct_189 G ha ⟨hm0, hm.2⟩) (r23 hm0 a _ _ rfl)⟩
    have r6 : ∀ (a : Nat) (x4 : Option Value), isW h a u → Run 6 [some (.ref 1), some (.int (jI i)), some (.int (jI m)), some (.ref a), x4] [] h (1, 6) := by
      intro a x4 ha
      refine hR 60 4 _ _ _ _ _ _ rfl ?_
      refine ⟨fun c => ?_, fun c => ?_⟩
      · simp (disch := omega) only [mj_lcm, jI_lt, jI_le, jI_eq, jL_lt, jL_le, jL_eq, jI_lt0, jI_0le, jI_0lt, jI_le0, jI_eq0, jL_eq0, jI_L, jI_add, jI_sub, jI_mul, jI_neg, jL_add, jL_sub, jL_mul, jL_neg, jL_I, jI_div, jI_mod, jL_div, jL_mod] at c
        exact jcallE (ct_100b G h) ⟨fun _ => ⟨fun y => absurd y (by omega), fun _ => ⟨h, Fr.refl _ _ h, rfl, rfl⟩⟩, fun y => absurd zi y⟩
      · simp (disch := omega) only [mj_lcm, jI_lt, jI_le, jI_eq, jL_lt, jL_le, jL_eq, jI_lt0, jI_0le, jI_0lt, jI_le0, jI_eq0, jL_eq0, jI_L, jI_add, jI_sub, jI_mul, jI_neg, jL_add, jL_sub, jL_mul, jL_neg, jL_I, jI_div, jI_mod, jL_div, jL_mod] at c
        exact jcallV (ct_100a G h) (r18 (by omega) a _ ha)
    have r5 : ∀ (a : Nat) (x3 x4 : Option Value), isW h a u → Run 5 [some (.ref 1), some (.int (jI i)), some (.int (jI m)), x3, x4] [.ref a] h (1, 6) := by
      intro a x3 x4 ha
      refine hR 60 3 _ _ _ _ _ _ rfl ?_
      exact r6 a _ ha
    refine hR 60 0 _ _ _ _ _ _ rfl ?_
    refine ⟨L.K 1 rfl, jcallP (ct_180a G L hN hi zi) ?_⟩
    rintro o h' ⟨rfl, a, rfl, ha⟩
    exact r5 a _ _ (hu ▸ ha)
  · refine hR 60 0 _ _ _ _ _ _ rfl ?_
    exact ⟨L.K 1 rfl, jcallE (ct_180b G L hN.2.2.1.1 hN.2.2.1.2 hi zi) ⟨fun z => absurd z zi, fun _ => ⟨h, Fr.refl _ _ h, rfl, rfl⟩⟩⟩
/-- what is told by count -/
def cnC (h : mj_H) (d : Int) (v : Nat → Int) : Prop := (hJ h 7 0 = jL (v 0) ∧ v 0 = d ∧ hI h 46 5 = jI (v 1) ∧ hI h 52 5 = jI (v 3) ∧ hI h 46 1 = jI (v 5) ∧ hI h 67 0 = jI (v 6)) ∧ (hI h 52 7 = jI (v 2) ∧ (0 ≤ v 2 ∧ v 2 ≤ 8) ∧ (v 2 = 0 → v 4 = 1) ∧ (v 2 ≠ 0 → ∃ g : Nat, g < 4096 ∧ hI h 62 0 = jI g ∧ hI h 61 g = jI (v 4))) ∧ v 7 = (if 0 < d then -1 else if d = -3 then 6 else if d = -4 then 4 else 2) ∧ hI h 44 2 = jI (v 8) ∧ hI h 1 8 = jI (v 9) ∧ hI h 1 10 = jI (v 10) ∧ hI h 1 9 = jI (v 11) ∧ hI h 1 18 = jI (v 12) ∧ hI h 1 19 = jI (v 13) ∧ hI h 1 22 = jI (v 14)
/-- FormHouse.count(I)I; cuts at [10, 11] -/
def cl_96_3 : List mj_E := (213, false, .ireturn, 1, 0, 0, 0, 0, 0) ::
  (214, false, .aload_n 0, 1, 0, 0, 0, 0, 0) ::
  (215, false, .getfield 206, 3, 0, 8, 0, 0, 0) ::
  (218, false, .ireturn, 1, 0, 0, 0, 0, 0) ::
  (219, false, .aload_n 0, 1, 0, 0, 0, 0, 0) ::
  (220, false, .getfield 209, 3, 0, 10, 0, 0, 0) ::
  (223, false, .ireturn, 1, 0, 0, 0, 0, 0) ::
  (224, false, .aload_n 0, 1, 0, 0, 0, 0, 0) ::
  (225, false, .getfield 212, 3, 0, 9, 0, 0, 0) ::
  (228, false, .ireturn, 1, 0, 0, 0, 0, 0) ::
  (229, false, .aload_n 0, 1, 0, 0, 0, 0, 0) ::
  (230, false, .getfield 215, 3, 0, 18, 0, 0, 0) ::
  (233, false, .ireturn, 1, 0, 0, 0, 0, 0) ::
  (234, false, .aload_n 0, 1, 0, 0, 0, 0, 0) ::
  (235, false, .getfield 150, 3, 0, 19, 0, 0, 0) ::
  (238, false, .ireturn, 1, 0, 0, 0, 0, 0) ::
  (239, false, .aload_n 0, 1, 0, 0, 0, 0, 0) ::
  (240, false, .getfield 146, 3, 0, 22, 0, 0, 0) ::
  (243, false, .ireturn, 1, 0, 0, 0, 0, 0) ::
  (244, false, .iconst (-1), 1, 0, 0, 0, jI (-1), 0) ::
  (245, false, .ireturn, 1, 0, 0, 0, 0, 0) ::
  []
def cl_96_2 : List mj_E := (165, false, .lcmp, 1, 0, 0, 0, 0, 0) ::
  (166, false, .ifCond .le 7, 3, 52, 0, 0, 0, 0) ::
  (169, false, .iconst (-1), 1, 0, 0, 0, jI (-1), 0) ::
  (170, false, .goto 29, 3, 65, 0, 0, 0, 0) ::
  (173, false, .lload_n 2, 1, 0, 0, 0, 0, 0) ::
  (174, false, .ldc2_w 195, 3, 0, 0, 0, 0, jL (-3)) ::
  (177, false, .lcmp, 1, 0, 0, 0, 0, 0) ::
  (178, false, .ifCond .ne 8, 3, 58, 0, 0, 0, 0) ::
  (181, false, .bipush 6, 2, 0, 0, 0, jI 6, 0) ::
  (183, false, .goto 16, 3, 65, 0, 0, 0, 0) ::
  (186, false, .lload_n 2, 1, 0, 0, 0, 0, 0) ::
  (187, false, .ldc2_w 122, 3, 0, 0, 0, 0, jL (-4)) ::
  (190, false, .lcmp, 1, 0, 0, 0, 0, 0) ::
  (191, false, .ifCond .ne 7, 3, 64, 0, 0, 0, 0) ::
  (194, false, .iconst 4, 1, 0, 0, 0, jI 4, 0) ::
  (195, false, .goto 4, 3, 65, 0, 0, 0, 0) ::
  (198, false, .iconst 2, 1, 0, 0, 0, jI 2, 0) ::
  (199, false, .ireturn, 1, 0, 0, 0, 0, 0) ::
  (200, false, .aload_n 0, 1, 0, 0, 0, 0, 0) ::
  (201, false, .getfield 24, 3, 0, 0, 2, 0, 0) ::
  (204, false, .getfield 197, 3, 1, 8, 2, 0, 0) ::
  (207, false, .bipush 7, 2, 0, 0, 0, jI 7, 0) ::
  (209, false, .aaload, 1, 0, 0, 0, 0, 0) ::
  (210, false, .getfield 201, 3, 5, 2, 0, 0, 0) ::
  cl_96_3
def cl_96_1 : List mj_E := (119, false, .getfield 179, 3, 8, 7, 0, 0, 0) ::
  (122, false, .ifCond .ne 7, 3, 28, 0, 0, 0, 0) ::
  (125, false, .iconst 1, 1, 0, 0, 0, jI 1, 0) ::
  (126, false, .goto 20, 3, 37, 0, 0, 0, 0) ::
  (129, false, .aload_n 0, 1, 0, 0, 0, 0, 0) ::
  (130, false, .getfield 49, 3, 0, 2, 2, 0, 0) ::
  (133, false, .getfield 185, 3, 8, 6, 2, 0, 0) ::
  (136, false, .aload_n 0, 1, 0, 0, 0, 0, 0) ::
  (137, false, .getfield 49, 3, 0, 2, 2, 0, 0) ::
  (140, false, .getfield 188, 3, 8, 8, 2, 0, 0) ::
  (143, false, .iconst 0, 1, 0, 0, 0, jI 0, 0) ::
  (144, false, .iaload, 1, 0, 0, 0, 0, 0) ::
  (145, false, .saload, 1, 0, 0, 0, 0, 0) ::
  (146, false, .ireturn, 1, 0, 0, 0, 0, 0) ::
  (147, false, .aload_n 0, 1, 0, 0, 0, 0, 0) ::
  (148, false, .getfield 37, 3, 0, 1, 2, 0, 0) ::
  (151, false, .getfield 191, 3, 7, 1, 0, 0, 0) ::
  (154, false, .ireturn, 1, 0, 0, 0, 0, 0) ::
  (155, false, .aload_n 0, 1, 0, 0, 0, 0, 0) ::
  (156, false, .getfield 56, 3, 0, 3, 2, 0, 0) ::
  (159, false, .getfield 194, 3, 11, 0, 0, 0, 0) ::
  (162, false, .ireturn, 1, 0, 0, 0, 0, 0) ::
  (163, false, .lload_n 2, 1, 0, 0, 0, 0, 0) ::
  (164, false, .lconst 0, 1, 0, 0, 0, 0, jL 0) ::
  cl_96_2
def cl_96_0 : List mj_E := (0, false, .aload_n 0, 1, 0, 0, 0, 0, 0) ::
  (1, false, .getfield 24, 3, 0, 0, 2, 0, 0) ::
  (4, false, .getfield 30, 3, 1, 1, 2, 0, 0) ::
  (7, false, .getfield 173, 3, 3, 0, 1, 0, 0) ::
  (10, true, .lstore_n 2, 1, 0, 0, 0, 0, 0) ::
  (11, true, .iload_n 1, 1, 0, 0, 0, 0, 0) ::
  (12, false, .tableswitch 232 0 14 #[76, 79, 87, 95, 103, 135, 143, 151, 188, 202, 207, 212, 217, 222, 227], 76, 91, 0, 0, 0, 0) ::
  (88, false, .lload_n 2, 1, 0, 0, 0, 0, 0) ::
  (89, false, .l2i, 1, 0, 0, 0, 0, 0) ::
  (90, false, .ireturn, 1, 0, 0, 0, 0, 0) ::
  (91, false, .aload_n 0, 1, 0, 0, 0, 0, 0) ::
  (92, false, .getfield 37, 3, 0, 1, 2, 0, 0) ::
  (95, false, .getfield 170, 3, 7, 5, 0, 0, 0) ::
  (98, false, .ireturn, 1, 0, 0, 0, 0, 0) ::
  (99, false, .aload_n 0, 1, 0, 0, 0, 0, 0) ::
  (100, false, .getfield 49, 3, 0, 2, 2, 0, 0) ::
  (103, false, .getfield 179, 3, 8, 7, 0, 0, 0) ::
  (106, false, .ireturn, 1, 0, 0, 0, 0, 0) ::
  (107, false, .aload_n 0, 1, 0, 0, 0, 0, 0) ::
  (108, false, .getfield 49, 3, 0, 2, 2, 0, 0) ::
  (111, false, .getfield 182, 3, 8, 5, 0, 0, 0) ::
  (114, false, .ireturn, 1, 0, 0, 0, 0, 0) ::
  (115, false, .aload_n 0, 1, 0, 0, 0, 0, 0) ::
  (116, false, .getfield 49, 3, 0, 2, 2, 0, 0) ::
  cl_96_1
def cd_96 : List mj_E := cl_96_0
def cx_96 : mj_X := (1, [], [7, 10, 14, 18, 22, 38, 42, 46, 66, 73, 76, 79, 82, 85, 88])
theorem tb_96 : mj_tab (mj_mt 96) cx_96 cd_96 mj_mh [(0, 0, 0), (4203, 0, 0), (1192, 0, 0), (1076, 0, 0), (0, 0, 0), (0, 0, 0), (0, 0, 0), (0, 0, 0), (0, 0, 0), (0, 0, 0), (0, 0, 0), (4204, 0, 0), (2001, 0, 0), (0, 0, 0), (0, 0, 0), (4205, 0, 0), (2084, 0, 0), (0, 0, 0), (0, 0, 0), (4205, 0, 0), (2080, 0, 0), (0, 0, 0), (0, 0, 0), (4205, 0, 0), (2084, 0, 0), (0, 0, 0), (0, 0, 0), (0, 0, 0), (0, 0, 0), (4205, 0, 0), (2082, 0, 0), (0, 0, 0), (4205, 0, 0), (2086, 0, 0), (0, 0, 0), (0, 0, 0), (0, 0, 0), (0, 0, 0), (0, 0, 0), (4204, 0, 0), (1235, 0, 0), (0, 0, 0), (0, 0, 0), (4206, 0, 0), (2130, 0, 0), (0, 0, 0), (0, 0, 0), (0, 0, 0), (0, 0, 0), (0, 0, 0), (0, 0, 0), (0, 0, 0), (0, 0, 0), (5037, 0, 0), (0, 0, 0), (0, 0, 0), (0, 0, 0), (0, 0, 0), (0, 0, 0), (3045, 0, 0), (0, 0, 0), (0, 0, 0), (0, 0, 0), (0, 0, 0), (0, 0, 0), (0, 0, 0), (0, 0, 0), (4203, 0, 0), (1200, 0, 0), (0, 0, 0), (0, 0, 0), (1112, 0, 0), (0, 0, 0), (0, 0, 0), (4211, 0, 0), (0, 0, 0), (0, 0, 0), (4213, 0, 0), (0, 0, 0), (0, 0, 0), (4212, 0, 0), (0, 0, 0), (0, 0, 0), (4221, 0, 0), (0, 0, 0), (0, 0, 0), (4222, 0, 0), (0, 0, 0), (0, 0, 0), (4225, 0, 0), (0, 0, 0), (0, 0, 0), (0, 0, 0)] = true := mj_tab_f (by decide +kernel)
theorem ct_96 (G : mj_G) {h : mj_H} (L : isLay h) {d : Int} (hd : -1099511627776 < d ∧ d < 1099511627776) {v : Nat → Int} (hv : cnC h d v) {x : Int} (hx : -2147483648 ≤ x ∧ x < 2147483648) : mj_Ct G (mj_mt 96) 0 0 [.ref 1, .int (jI x)] h (jR (.int (jI (cnV v x))) h) := by
  have k := L.K 1 rfl
  obtain ⟨⟨v0, v0', v1, v3, v5, v6⟩, ⟨v2, v2b, v4, v4'⟩, v7, v8, v9, v10, v11, v12, v13, v14⟩ := hv
  have fin : ∀ {u : Int32}, u = jI (cnV v x) → jR (.int (jI (cnV v x))) h (.returned (some (.int u))) h := by
    rintro u rfl
    exact ⟨rfl, rfl⟩
  have ex := jI_to hx.1 hx.2
  refine mj_Ct_of mj_ok tb_96 rfl rfl (Nat.le_of_ble_eq_true rfl) (fun Run hR => ?_)
  have r11 : ∀ (dL : Int64), dL = jL d → Run 11 [some (.ref 1), some (.int (jI x)), some (.long dL), none] [] h (0, 0) := by
    rintro dL rfl
    refine hR 60 5 _ _ _ _ _ _ rfl ?_
    refine ⟨fun c => fin ?_, fun j hj e => ?_⟩
    · rw [ex] at c
      unfold cnV
      rw [if_neg (by have c1 : x < 0 ∨ 14 < x := c; omega)]
    · rw [ex] at e
      have hj2 : j ≤ 14 := hj
      have e2 : x = (j : Int) := by
        have : x = 0 + (j : Int) := e
        omega
      have ev : cnV v x = v j := by
        unfold cnV
        rw [if_pos (by omega), e2, Int.toNat_natCast]
      rw [ev] at fin ⊢
      clear ev e e2 ex hx hj
      match j, hj2 with
      | 0, _ => exact fin (by rw [v0', jL_I])
      | 1, _ => exact ⟨k, _, L.R 1 1 _ rfl, L.K 46 rfl, fin v1⟩
      | 2, _ => exact ⟨k, _, L.R 1 2 _ rfl, L.K 52 rfl, fin v2⟩
      | 3, _ => exact ⟨k, _, L.R 1 2 _ rfl, L.K 52 rfl, fin v3⟩
      | 4, _ =>
        refine ⟨k, _, L.R 1 2 _ rfl, L.K 52 rfl, fun c => ?_, fun c => ?_⟩
        · have c' : hI h 52 7 = 0 := c
          rw [v2, jI_eq0 (by omega) (by omega)] at c'
          exact fin (by rw [v4 c'])
        · have c' : ¬ hI h 52 7 = 0 := c
          rw [v2, jI_eq0 (by omega) (by omega)] at c'
          obtain ⟨g, g1, g2, g3⟩ := v4' c'
          refine ⟨k, _, L.R 1 2 _ rfl, L.K 52 rfl, _, L.R 52 6 _ rfl, k, _, L.R 1 2 _ rfl, L.K 52 rfl, _, L.R 52 8 _ rfl, Or.inl (L.K 62 rfl), ?_, L.K 61 rfl, ?_, fin ?_⟩
          · show vp_in (jI 0) (hN h 62)
            rw [show hN h 62 = 8 from L.N 61 rfl]
            exact jI_in (by omega) (by omega) (by omega)
          · show vp_in (hI h 62 0) (hN h 61)
            rw [g2, show hN h 61 = 4096 from L.N 60 rfl]
            exact jI_in (by omega) (by omega) (by omega)
          · show hI h 61 (hI h 62 0).toNatClampNeg = _
            rw [g2, jI_nat (by omega) (by omega), Int.toNat_natCast]
            exact g3
      | 5, _ => exact ⟨k, _, L.R 1 1 _ rfl, L.K 46 rfl, fin v5⟩
      | 6, _ => exact ⟨k, _, L.R 1 3 _ rfl, L.K 67 rfl, fin v6⟩
      | 7, _ =>
        refine ⟨fun c => ⟨fun c2 => fin ?_, fun c2 => ⟨fun c3 => fin ?_, fun c3 => fin ?_⟩⟩, fun c => fin ?_⟩
        · simp (disch := omega) only [mj_lcm, jI_lt, jI_le, jI_eq, jL_lt, jL_le, jL_eq, jI_lt0, jI_0le, jI_0lt, jI_le0, jI_eq0, jL_eq0, jI_L, jI_add, jI_sub, jI_mul, jI_neg, jL_add, jL_sub, jL_mul, jL_neg, jL_I, jI_div, jI_mod, jL_div, jL_mod] at c c2
          rw [v7, if_neg (by omega), if_pos c2]
        · simp (disch := omega) only [mj_lcm, jI_lt, jI_le, jI_eq, jL_lt, jL_le, jL_eq, jI_lt0, jI_0le, jI_0lt, jI_le0, jI_eq0, jL_eq0, jI_L, jI_add, jI_sub, jI_mul, jI_neg, jL_add, jL_sub, jL_mul, jL_neg, jL_I, jI_div, jI_mod, jL_div, jL_mod] at c c2 c3
          rw [v7, if_neg (by omega), if_neg c2, if_pos c3]
        · simp (disch := omega) only [mj_lcm, jI_lt, jI_le, jI_eq, jL_lt, jL_le, jL_eq, jI_lt0, jI_0le, jI_0lt, jI_le0, jI_eq0, jL_eq0, jI_L, jI_add, jI_sub, jI_mul, jI_neg, jL_add, jL_sub, jL_mul, jL_neg, jL_I, jI_div, jI_mod, jL_div, jL_mod] at c c2 c3
          rw [v7, if_neg (by omega), if_neg c2, if_neg c3]
        · simp (disch := omega) only [mj_lcm, jI_lt, jI_le, jI_eq, jL_lt, jL_le, jL_eq, jI_lt0, jI_0le, jI_0lt, jI_le0, jI_eq0, jL_eq0, jI_L, jI_add, jI_sub, jI_mul, jI_neg, jL_add, jL_sub, jL_mul, jL_neg, jL_I, jI_div, jI_mod, jL_div, jL_mod] at c
          rw [v7, if_pos (by omega)]
      | 8, _ =>
        refine ⟨k, _, L.R 1 0 _ rfl, L.K 2 rfl, _, L.R 2 8 _ rfl, Or.inl (L.K 29 rfl), ?_, _, L.R 29 7 _ rfl, L.K 44 rfl, fin v8⟩
        show vp_in (jI 7) (hN h 29)
        rw [show hN h 29 = 8 from L.N 28 rfl]
        exact jI_in (by omega) (by omega) (by omega)
      | 9, _ => exact ⟨k, fin v9⟩
      | 10, _ => exact ⟨k, fin v10⟩
      | 11, _ => exact ⟨k, fin v11⟩
      | 12, _ => exact ⟨k, fin v12⟩
      | 13, _ => exact ⟨k, fin v13⟩
      | 14, _ => exact ⟨k, fin v14⟩
      | j + 15, h9 => exact absurd h9 (by omega)
  have r10 : ∀ (x2 x3 : Option Value), Run 10 [some (.ref 1), some (.int (jI x)), x2, x3] [.long (hJ h 7 0)] h (0, 0) := by
    intro x2 x3
    refine hR 60 4 _ _ _ _ _ _ rfl ?_
    exact r11 _ (by rw [v0, v0'])
  refine hR 60 0 _ _ _ _ _ _ rfl ?_
  exact ⟨k, _, L.R 1 0 _ rfl, L.K 2 rfl, _, L.R 2 1 _ rfl, L.K 7 rfl, r10 _ _⟩
