/-! the division by two -/
theorem half_eq {T V Y R : Nat} (hT : 0 < T) (he : R + 2 * T * Y = V * T) (hw : R < 2 * T) : Y = V / 2 ∧ R = (V % 2) * T := by
  have e0 : (R : Int) + 2 * T * Y = V * T := by
    have := congrArg (Nat.cast (R := Int)) he
    rw [Int.natCast_add, Int.natCast_mul, Int.natCast_mul, Int.natCast_mul] at this
    exact this
  have e1 : (T : Int) * ((V : Int) - 2 * Y) = R := by grind
  have l1 : (T : Int) * ((V : Int) - 2 * Y) < T * 2 := by omega
  have l2 : (T : Int) * -1 < T * ((V : Int) - 2 * Y) := by omega
  have m1 := lt_of_mul (show (0 : Int) < T by omega) l1
  have m2 := lt_of_mul (show (0 : Int) < T by omega) l2
  have hY : Y = V / 2 := by omega
  refine ⟨hY, ?_⟩
  have e2 : ((V % 2 : Nat) : Int) = (V : Int) - 2 * Y := by omega
  have : ((V % 2 * T : Nat) : Int) = R := by
    rw [Int.natCast_mul, e2, Int.mul_comm]
    exact e1
  omega
/-- FormHouse$Reckoner.part(LFormHouse$Whole;LFormHouse$Whole;LFormHouse$Whole;LFormHouse$Whole;)V; cuts at [6, 18, 25, 31, 46, 94, 120, 142, 165, 177, 211] -/
def cl_53_4 : List mj_E := (193, false, .isub, 1, 0, 0, 0, 0, 0) ::
  (194, false, .iaload, 1, 0, 0, 0, 0, 0) ::
  (195, false, .ifCond .ne 16, 3, 106, 0, 0, 0, 0) ::
  (198, false, .aload_n 0, 1, 0, 0, 0, 0, 0) ::
  (199, false, .dup, 1, 0, 0, 0, 0, 0) ::
  (200, false, .getfield 21, 3, 2, 1, 0, 0, 0) ::
  (203, false, .iconst 1, 1, 0, 0, 0, jI 1, 0) ::
  (204, false, .isub, 1, 0, 0, 0, 0, 0) ::
  (205, false, .putfield 21, 3, 2, 1, 0, 0, 0) ::
  (208, false, .goto (-31), 3, 88, 0, 0, 0, 0) ::
  (211, true, .aload_n 1, 1, 0, 0, 0, 0, 0) ::
  (212, false, .aload_n 0, 1, 0, 0, 0, 0, 0) ::
  (213, false, .getfield 9, 3, 2, 0, 2, 0, 0) ::
  (216, false, .aload_n 0, 1, 0, 0, 0, 0, 0) ::
  (217, false, .getfield 21, 3, 2, 1, 0, 0, 0) ::
  (220, false, .iload 6, 2, 0, 0, 0, 0, 0) ::
  (222, false, .invokevirtual 28, 3, 39, 3, 5, 0, 0) ::
  (225, false, .return_, 1, 0, 0, 0, 0, 0) ::
  []
def cl_53_3 : List mj_E := (144, false, .ifCond .le 21, 3, 82, 0, 0, 0, 0) ::
  (147, false, .aload_n 0, 1, 0, 0, 0, 0, 0) ::
  (148, false, .getfield 15, 3, 2, 2, 2, 0, 0) ::
  (151, false, .iload 10, 2, 0, 0, 0, 0, 0) ::
  (153, false, .iconst 1, 1, 0, 0, 0, jI 1, 0) ::
  (154, false, .isub, 1, 0, 0, 0, 0, 0) ::
  (155, false, .iaload, 1, 0, 0, 0, 0, 0) ::
  (156, false, .ifCond .ne 9, 3, 82, 0, 0, 0, 0) ::
  (159, false, .iinc 10 (-1), 3, 0, 0, 0, jI (-1), 0) ::
  (162, false, .goto (-20), 3, 71, 0, 0, 0, 0) ::
  (165, true, .aload_n 2, 1, 0, 0, 0, 0, 0) ::
  (166, false, .aload_n 0, 1, 0, 0, 0, 0, 0) ::
  (167, false, .getfield 15, 3, 2, 2, 2, 0, 0) ::
  (170, false, .iload 10, 2, 0, 0, 0, 0, 0) ::
  (172, false, .iload 5, 2, 0, 0, 0, 0, 0) ::
  (174, false, .invokevirtual 28, 3, 39, 3, 5, 0, 0) ::
  (177, true, .aload_n 0, 1, 0, 0, 0, 0, 0) ::
  (178, false, .getfield 21, 3, 2, 1, 0, 0, 0) ::
  (181, false, .ifCond .le 30, 3, 106, 0, 0, 0, 0) ::
  (184, false, .aload_n 0, 1, 0, 0, 0, 0, 0) ::
  (185, false, .getfield 9, 3, 2, 0, 2, 0, 0) ::
  (188, false, .aload_n 0, 1, 0, 0, 0, 0, 0) ::
  (189, false, .getfield 21, 3, 2, 1, 0, 0, 0) ::
  (192, false, .iconst 1, 1, 0, 0, 0, jI 1, 0) ::
  cl_53_4
def cl_53_2 : List mj_E := (92, false, .istore 10, 2, 0, 0, 0, 0, 0) ::
  (94, true, .iload 10, 2, 0, 0, 0, 0, 0) ::
  (96, false, .ifCond .lt 24, 3, 61, 0, 0, 0, 0) ::
  (99, false, .aload_n 0, 1, 0, 0, 0, 0, 0) ::
  (100, false, .getfield 9, 3, 2, 0, 2, 0, 0) ::
  (103, false, .iload 10, 2, 0, 0, 0, 0, 0) ::
  (105, false, .aload_n 0, 1, 0, 0, 0, 0, 0) ::
  (106, false, .iload 10, 2, 0, 0, 0, 0, 0) ::
  (108, false, .iload 7, 2, 0, 0, 0, 0, 0) ::
  (110, false, .invokevirtual 82, 3, 56, 2, 2, 0, 0) ::
  (113, false, .iastore, 1, 0, 0, 0, 0, 0) ::
  (114, false, .iinc 10 (-1), 3, 0, 0, 0, jI (-1), 0) ::
  (117, false, .goto (-23), 3, 49, 0, 0, 0, 0) ::
  (120, true, .aload_n 0, 1, 0, 0, 0, 0, 0) ::
  (121, false, .iload 8, 2, 0, 0, 0, 0, 0) ::
  (123, false, .iload 7, 2, 0, 0, 0, 0, 0) ::
  (125, false, .invokestatic 85, 3, 60, 2, 0, 0, 0) ::
  (128, false, .iload 9, 2, 0, 0, 0, 0, 0) ::
  (130, false, .invokevirtual 88, 3, 61, 2, 2, 0, 0) ::
  (133, false, .iload 8, 2, 0, 0, 0, 0, 0) ::
  (135, false, .iload 7, 2, 0, 0, 0, 0, 0) ::
  (137, false, .invokestatic 85, 3, 60, 2, 0, 0, 0) ::
  (140, false, .istore 10, 2, 0, 0, 0, 0, 0) ::
  (142, true, .iload 10, 2, 0, 0, 0, 0, 0) ::
  cl_53_3
def cl_53_1 : List mj_E := (47, false, .iload 8, 2, 0, 0, 0, 0, 0) ::
  (49, false, .aload_n 0, 1, 0, 0, 0, 0, 0) ::
  (50, false, .getfield 15, 3, 2, 2, 2, 0, 0) ::
  (53, false, .iload 9, 2, 0, 0, 0, 0, 0) ::
  (55, false, .invokestatic 78, 3, 55, 4, 0, 0, 0) ::
  (58, false, .aload 4, 2, 0, 0, 0, 0, 0) ::
  (60, false, .iload 7, 2, 0, 0, 0, 0, 0) ::
  (62, false, .aload_n 0, 1, 0, 0, 0, 0, 0) ::
  (63, false, .getfield 18, 3, 2, 3, 2, 0, 0) ::
  (66, false, .iload 9, 2, 0, 0, 0, 0, 0) ::
  (68, false, .invokestatic 78, 3, 55, 4, 0, 0, 0) ::
  (71, false, .aload_n 0, 1, 0, 0, 0, 0, 0) ::
  (72, false, .iconst 0, 1, 0, 0, 0, jI 0, 0) ::
  (73, false, .iload 8, 2, 0, 0, 0, 0, 0) ::
  (75, false, .iload 7, 2, 0, 0, 0, 0, 0) ::
  (77, false, .isub, 1, 0, 0, 0, 0, 0) ::
  (78, false, .iconst 1, 1, 0, 0, 0, jI 1, 0) ::
  (79, false, .iadd, 1, 0, 0, 0, 0, 0) ::
  (80, false, .invokestatic 35, 3, 43, 2, 0, 0, 0) ::
  (83, false, .putfield 21, 3, 2, 1, 0, 0, 0) ::
  (86, false, .aload_n 0, 1, 0, 0, 0, 0, 0) ::
  (87, false, .getfield 21, 3, 2, 1, 0, 0, 0) ::
  (90, false, .iconst 1, 1, 0, 0, 0, jI 1, 0) ::
  (91, false, .isub, 1, 0, 0, 0, 0, 0) ::
  cl_53_2
def cl_53_0 : List mj_E := (0, false, .aload_n 3, 1, 0, 0, 0, 0, 0) ::
  (1, false, .getfield 45, 3, 5, 2, 0, 0, 0) ::
  (4, false, .istore 5, 2, 0, 0, 0, 0, 0) ::
  (6, true, .aload_n 3, 1, 0, 0, 0, 0, 0) ::
  (7, false, .getfield 45, 3, 5, 2, 0, 0, 0) ::
  (10, false, .aload 4, 2, 0, 0, 0, 0, 0) ::
  (12, false, .getfield 45, 3, 5, 2, 0, 0, 0) ::
  (15, false, .imul, 1, 0, 0, 0, 0, 0) ::
  (16, false, .istore 6, 2, 0, 0, 0, 0, 0) ::
  (18, true, .aload 4, 2, 0, 0, 0, 0, 0) ::
  (20, false, .getfield 34, 3, 5, 1, 0, 0, 0) ::
  (23, false, .istore 7, 2, 0, 0, 0, 0, 0) ::
  (25, true, .aload_n 3, 1, 0, 0, 0, 0, 0) ::
  (26, false, .getfield 34, 3, 5, 1, 0, 0, 0) ::
  (29, false, .istore 8, 2, 0, 0, 0, 0, 0) ::
  (31, true, .aload 4, 2, 0, 0, 0, 0, 0) ::
  (33, false, .getfield 69, 3, 5, 0, 2, 0, 0) ::
  (36, false, .iload 7, 2, 0, 0, 0, 0, 0) ::
  (38, false, .iconst 1, 1, 0, 0, 0, jI 1, 0) ::
  (39, false, .isub, 1, 0, 0, 0, 0, 0) ::
  (40, false, .iaload, 1, 0, 0, 0, 0, 0) ::
  (41, false, .invokestatic 72, 3, 54, 1, 0, 0, 0) ::
  (44, false, .istore 9, 2, 0, 0, 0, 0, 0) ::
  (46, true, .aload_n 3, 1, 0, 0, 0, 0, 0) ::
  cl_53_1
def cd_53 : List mj_E := cl_53_0
def cx_53 : mj_X := (0, [], [])
theorem tb_53 : mj_tab (mj_mt 53) cx_53 cd_53 mj_mh [(0, 0, 0), (1110, 0, 0), (0, 0, 0), (0, 0, 0), (1110, 0, 0), (0, 0, 0), (1110, 0, 0), (0, 0, 0), (0, 0, 0), (0, 0, 0), (1103, 0, 0), (0, 0, 0), (0, 0, 0), (1103, 0, 0), (0, 0, 0), (0, 0, 0), (1100, 0, 0), (0, 0, 0), (0, 0, 0), (0, 0, 0), (0, 0, 0), (4007, 0, 0), (0, 0, 0), (0, 0, 0), (0, 0, 0), (0, 0, 0), (1052, 0, 0), (0, 0, 0), (4011, 0, 0), (0, 0, 0), (0, 0, 0), (0, 0, 0), (1053, 0, 0), (0, 0, 0), (4011, 0, 0), (0, 0, 0), (0, 0, 0), (0, 0, 0), (0, 0, 0), (0, 0, 0), (0, 0, 0), (0, 0, 0), (3201, 0, 0), (1051, 0, 0), (0, 0, 0), (1051, 0, 0), (0, 0, 0), (0, 0, 0), (0, 0, 0), (0, 0, 0), (0, 0, 0), (0, 0, 0), (1050, 0, 0), (0, 0, 0), (0, 0, 0), (0, 0, 0), (0, 0, 0), (4014, 0, 0), (0, 0, 0), (0, 0, 0), (0, 0, 0), (0, 0, 0), (0, 0, 0), (0, 0, 0), (4030, 0, 0), (0, 0, 0), (4033, 0, 0), (0, 0, 0), (0, 0, 0), (4030, 0, 0), (0, 0, 0), (0, 0, 0), (0, 0, 0), (0, 0, 0), (1052, 0, 0), (0, 0, 0), (0, 0, 0), (0, 0, 0), (0, 0, 0), (0, 0, 0), (0, 0, 0), (0, 0, 0), (0, 0, 0), (0, 0, 0), (1052, 0, 0), (0, 0, 0), (0, 0, 0), (3182, 0, 0), (0, 0, 0), (1051, 0, 0), (0, 0, 0), (0, 0, 0), (1050, 0, 0), (0, 0, 0), (1051, 0, 0), (0, 0, 0), (0, 0, 0), (0, 0, 0), (0, 0, 0), (0, 0, 0), (0, 0, 0), (1051, 0, 0), (0, 0, 0), (0, 0, 0), (1051, 0, 0), (0, 0, 0), (0, 0, 0), (0, 0, 0), (1050, 0, 0), (0, 0, 0), (1051, 0, 0), (0, 0, 0), (3182, 0, 0), (0, 0, 0)] = true := mj_tab_f (by decide +kernel)
theorem ct_53 (G : mj_G) {h : mj_H} {qd rm a b : Nat} {va : Int} (hk : isRk h) (hq : isW0 h qd) (hr : isW0 h rm) (ha : isW h a va) (hb : isW h b 2) (n1 : qd ≠ rm) (n2 : qd ≠ rm + 1) (n3 : rm ≠ qd + 1) : mj_Ct G (mj_mt 53) 0 0 [.ref 3, .ref qd, .ref rm, .ref a, .ref b] h (fun o h' => o = .returned none ∧ isW h' qd (va.tdiv 2) ∧ FrI [3, 4, 5, 6, qd, qd + 1, rm, rm + 1] h h') := by
  have sga := ha.sg
  obtain ⟨a0, m, a1, a2, a3, a4, a5⟩ := ha
  obtain ⟨b0, nb, b1, b2, b3, b4, b5⟩ := hb
  have ga := a0.2.2.2.2
  have gb' := b0.2.2.2.2
  have gq := hq.2.2.2.2
  have gr := hr.2.2.2.2
  have hnb : nb = 1 ∧ wd (h.1 (b + 1) 0) = 2 := by
    have e2 : (2 : Int).natAbs = 2 := rfl
    rw [e2] at b4 b5
    rcases Nat.lt_or_ge nb 2 with z | z
    · rcases (show nb = 0 ∨ nb = 1 by omega) with y | y
      · subst y
        simp [mag] at b4
      · subst y
        refine ⟨rfl, ?_⟩
        have : mag (h.1 (b + 1)) 1 = 0 + wd (h.1 (b + 1) 0) * 4294967296 ^ 0 := rfl
        rw [this] at b4
        omega
    · exfalso
      have : 4294967296 ^ 1 ≤ 4294967296 ^ (nb - 1) := Nat.pow_le_pow_right (by decide) (by omega)
      rcases b5 with y | y <;> omega
  obtain ⟨rfl, hw0⟩ := hnb
  have hsr : -1 ≤ va.sign ∧ va.sign ≤ 1 := by
    rcases Int.sign_trichotomy va with z | z | z <;> rw [z] <;> decide
  obtain ⟨T30, hT30⟩ : ∃ T : Nat, T = 1073741824 := ⟨_, rfl⟩
  have hT31 : 2147483648 = 2 * T30 := by omega
  generalize hV : va.natAbs = V at a4 a5
  have hsg : m ≠ 0 → va.sign = 1 ∨ va.sign = -1 := by
    intro hm
    rcases Int.sign_trichotomy va with z | z | z
    · exact Or.inl z
    · exfalso
      have h0 := Int.sign_eq_zero_iff_zero.1 z
      rw [h0] at hV
      have : 0 < 4294967296 ^ (m - 1) := Nat.pow_pos (by decide)
      have h00 : (0 : Int).natAbs = 0 := rfl
      rw [h00] at hV
      rcases a5 with y | y <;> omega
    · exact Or.inr z
  have hm0 : m = 0 → V = 0 := by
    intro hm
    rw [a4, hm]
    rfl
  refine mj_Ct_of mj_ok tb_53 rfl rfl (Nat.le_of_ble_eq_true rfl) (fun Run hR => ?_)
  -- the quotient is given
  have r211 : ∀ (j : Nat) (h' : mj_H) (x5 x7 x8 x9 x10 : Option Value), j ≤ m → FrI [3, 4, 5, 6, rm, rm + 1] h h' → hI h' 3 1 = jI j → mag (h'.1 4) j = V / 2 → (j = 0 ∨ 4294967296 ^ (j - 1) ≤ mag (h'.1 4) j) → Run 211 [some (.ref 3), some (.ref qd), some (.ref rm), some (.ref a), some (.ref b), x5, some (.int (jI va.sign)), x7, x8, x9, x10] [] h' (0, 0) := by
    rintro j h' x5 x7 x8 x9 x10 hj hf hl hm hz
    have k' := hk.fr hf.1
    refine hR 40 106 _ _ _ _ _ _ rfl ?_
    refine ⟨k'.1, _, k'.2.1, k'.1, ?_⟩
    rw [hl]
    have c39 := ct_39 G (h := h') (w := qd) (r := 4) (hq.fr hf.1) k'.2.2.1 (by omega) (n := j) (by omega) (by rw [k'.2.2.2.1]; omega) (s := va.sign) (by
      by_cases h0 : m = 0
      · have := hm0 h0
        refine Or.inr (Or.inr ?_)
        rw [hm]
        omega
      · rcases hsg h0 with z | z
        · exact Or.inl z
        · exact Or.inr (Or.inl z)) hz
    refine ⟨(hq.fr hf.1).1, jcallP c39 ?_⟩
    rintro o h2 ⟨rfl, q1, q2⟩
    refine ⟨rfl, ?_, ?_⟩
    · rw [hm] at q1
      have e : va.sign * ((V / 2 : Nat) : Int) = va.tdiv 2 := by
        rcases Int.sign_trichotomy va with z | z | z
        · rw [z, Int.tdiv_eq_ediv_of_nonneg (by have := Int.sign_eq_one_iff_pos.1 z; omega)]
          have := Int.sign_eq_one_iff_pos.1 z
          omega
        · have := Int.sign_eq_zero_iff_zero.1 z
          rw [z, this, Int.zero_mul, Int.zero_tdiv]
        · have h0 := Int.sign_eq_neg_one_iff_neg.1 z
          have h3 := Int.neg_tdiv (a := -va) (b := 2)
          have h4 : (-va).tdiv 2 = (-va) / 2 := Int.tdiv_eq_ediv_of_nonneg (by omega)
          rw [Int.neg_neg, h4] at h3
          rw [z, h3]
          omega
      rw [e] at q1
      exact q1
    · exact (hf.trans q2).mono (by simp)
  have strip : ∀ (j : Nat) (h' : mj_H) (x5 x7 x8 x9 x10 : Option Value), j ≤ m → FrI [3, 4, 5, 6, rm, rm + 1] h h' → hI h' 3 1 = jI j → mag (h'.1 4) j = V / 2 → Run 177 [some (.ref 3), some (.ref qd), some (.ref rm), some (.ref a), some (.ref b), x5, some (.int (jI va.sign)), x7, x8, x9, x10] [] h' (0, 0) := by
    intro j
    induction j with
    | zero =>
      rintro h' x5 x7 x8 x9 x10 hj hf hl hm
      have k' := hk.fr hf.1
      refine hR 40 88 _ _ _ _ _ _ rfl ?_
      refine ⟨k'.1, ?_⟩
      rw [hl]
      refine ⟨fun c => ?_, fun c => absurd (by decide) c⟩
      exact r211 0 h' _ _ _ _ _ hj hf hl hm (Or.inl rfl)
    | succ j ih =>
      rintro h' x5 x7 x8 x9 x10 hj hf hl hm
      have k' := hk.fr hf.1
      refine hR 40 88 _ _ _ _ _ _ rfl ?_
      refine ⟨k'.1, ?_⟩
      rw [hl]
      refine ⟨fun c => ?_, fun c => ?_⟩
      · simp (disch := omega) only [mj_lcm, jI_lt, jI_le, jI_eq, jL_lt, jL_le, jL_eq, jI_lt0, jI_0le, jI_0lt, jI_le0, jI_eq0, jL_eq0, jI_L, jI_add, jI_sub, jI_mul, jI_neg, jL_add, jL_sub, jL_mul, jL_neg, jL_I, jI_div, jI_mod, jL_div, jL_mod] at c
        omega
      · refine ⟨k'.1, _, k'.2.1, k'.1, ?_⟩
        rw [hl]
        have ej : jI ((j + 1 : Nat) : Int) - jI 1 = jI (j : Nat) := by
          rw [jI_sub]
          congr 1
          omega
        refine ⟨Or.inl k'.2.2.1, ?_, ?_⟩
        · rw [ej, k'.2.2.2.1]
          exact jI_in (by omega) (by omega) (by omega)
        · rw [ej, jI_nat (by omega) (by omega)]
          refine ⟨fun c2 => ⟨k'.1, k'.1, ?_⟩, fun c2 => ?_⟩
          rotate_left
          · refine r211 (j + 1) h' _ _ _ _ _ hj hf hl hm (Or.inr ?_)
            have c3 : wd (h'.1 4 j) ≠ 0 := fun z => c2 (wd_0.mpr z)
            show 4294967296 ^ j ≤ mag (h'.1 4) j + wd (h'.1 4 j) * 4294967296 ^ j
            have : 1 * 4294967296 ^ j ≤ wd (h'.1 4 j) * 4294967296 ^ j := Nat.mul_le_mul_right _ (Nat.pos_of_ne_zero c3)
            omega
          · have c3 : wd (h'.1 4 j) = 0 := wd_0.mp c2
            rw [hl, ej]
            refine ih _ _ _ _ _ _ (by omega) (hf.sI (by simp) _ _) (sI_at _ _ _ _) ?_
            rw [show (sI h' 3 1 (jI (j : Nat))).1 4 = h'.1 4 from sI_a _ (by decide) _ _, ← hm]
            show _ = mag (h'.1 4) j + wd (h'.1 4 j) * 4294967296 ^ j
            rw [c3]
            omega
  -- the rest is given
  have r165 : ∀ (l : Nat) (h' : mj_H) (lI : Int32) (x7 x8 : Option Value), l ≤ 1 → FrI [3, 4, 5, 6] h h' → hI h' 3 1 = jI m → mag (h'.1 4) m = V / 2 → (l = 0 ∨ (wd (h'.1 5 0) = 1 ∧ m ≠ 0)) → lI = jI l → Run 165 [some (.ref 3), some (.ref qd), some (.ref rm), some (.ref a), some (.ref b), some (.int (jI va.sign)), some (.int (jI va.sign)), x7, x8, some (.int (jI 30)), some (.int lI)] [] h' (0, 0) := by
    rintro l h' lI x7 x8 hl1 hf hl hm hz rfl
    have k' := hk.fr hf.1
    have hmag1 : mag (h'.1 5) 1 = wd (h'.1 5 0) := by
      show 0 + wd (h'.1 5 0) * 4294967296 ^ 0 = _
      omega
    refine hR 40 82 _ _ _ _ _ _ rfl ?_
    refine ⟨k'.1, _, k'.2.2.2.2.1, ?_⟩
    have c39 := ct_39 G (h := h') (w := rm) (r := 5) (hr.fr hf.1) k'.2.2.2.2.2.1 (by omega) (n := l) (by omega) (by rw [k'.2.2.2.2.2.2.1]; omega) (s := va.sign) (by
      rcases hz with z | z
      · refine Or.inr (Or.inr ?_)
        rw [z]
        rfl
      · rcases hsg z.2 with y | y
        · exact Or.inl y
        · exact Or.inr (Or.inl y)) (by
      rcases (show l = 0 ∨ l = 1 by omega) with z | z
      · exact Or.inl z
      · refine Or.inr ?_
        subst z
        rcases hz with y | y
        · omega
        · rw [hmag1, y.1]
          decide)
    refine ⟨(hr.fr hf.1).1, jcallP c39 ?_⟩
    rintro o h2 ⟨rfl, q1, q2⟩
    have hf2 := (hf.trans q2).mono (T := [3, 4, 5, 6, rm, rm + 1]) (by simp)
    refine strip m h2 _ _ _ _ _ (Nat.le_refl _) hf2 ?_ ?_
    · rw [← hl]
      exact congrFun (q2.2 3 (by simp; omega)) 1
    · rw [show h2.1 4 = h'.1 4 from q2.2 4 (by simp; omega)]
      exact hm
  have left : ∀ (l : Nat) (h' : mj_H) (lI : Int32) (x7 x8 : Option Value), l ≤ 1 → FrI [3, 4, 5, 6] h h' → hI h' 3 1 = jI m → mag (h'.1 4) m = V / 2 → (l = 0 ∨ (wd (h'.1 5 0) ≤ 1 ∧ m ≠ 0)) → lI = jI l → Run 142 [some (.ref 3), some (.ref qd), some (.ref rm), some (.ref a), some (.ref b), some (.int (jI va.sign)), some (.int (jI va.sign)), x7, x8, some (.int (jI 30)), some (.int lI)] [] h' (0, 0) := by
    intro l
    induction l with
    | zero =>
      rintro h' lI x7 x8 hl1 hf hl hm hz rfl
      refine hR 40 71 _ _ _ _ _ _ rfl ?_
      refine ⟨fun c => ?_, fun c => absurd (by decide) c⟩
      exact r165 0 h' _ _ _ hl1 hf hl hm (Or.inl rfl) rfl
    | succ l ih =>
      rintro h' lI x7 x8 hl1 hf hl hm hz rfl
      have hl0 : l = 0 := by omega
      subst hl0
      have k' := hk.fr hf.1
      have hz2 : wd (h'.1 5 0) ≤ 1 ∧ m ≠ 0 := by
        rcases hz with z | z
        · omega
        · exact z
      refine hR 40 71 _ _ _ _ _ _ rfl ?_
      refine ⟨fun c => absurd c (by decide), fun c => ?_⟩
      have ej : jI ((0 + 1 : Nat) : Int) - jI 1 = jI (0 : Nat) := rfl
      refine ⟨k'.1, _, k'.2.2.2.2.1, Or.inl k'.2.2.2.2.2.1, ?_, ?_⟩
      · rw [ej, k'.2.2.2.2.2.2.1]
        exact jI_in (by omega) (by omega) (by omega)
      · rw [ej, jI_nat (by omega) (by omega)]
        refine ⟨fun c2 => ?_, fun c2 => ?_⟩
        · exact ih h' (jI ((0 + 1 : Nat) : Int) + jI (-1)) x7 x8 (by omega) hf hl hm (Or.inl rfl) rfl
        · have c3 : wd (h'.1 5 0) ≠ 0 := fun z => c2 (wd_0.mpr z)
          exact r165 1 h' _ _ _ (by omega) hf hl hm (Or.inr ⟨by omega, hz2.2⟩) rfl
  have r120 : ∀ (h' : mj_H) (x10 : Option Value), FrI [3, 4, 5, 6] h h' → hI h' 3 1 = jI m → wd (h'.1 5 0) < 2 * T30 → (0 < m → wd (h'.1 5 1) = 0) → wd (h'.1 5 0) + 2 * T30 * mag (h'.1 4) m = V * T30 → Run 120 [some (.ref 3), some (.ref qd), some (.ref rm), some (.ref a), some (.ref b), some (.int (jI va.sign)), some (.int (jI va.sign)), some (.int (jI (1 : Nat))), some (.int (jI m)), some (.int (jI 30)), x10] [] h' (0, 0) := by
    rintro h' x10 hf hl hw hw1 he
    have k' := hk.fr hf.1
    have hT : 0 < T30 := by omega
    have hY := half_eq hT he hw
    have emin : jI (if (1 : Int) < m then 1 else m) = jI ((if m = 0 then 0 else 1 : Nat) : Int) := by
      congr 1
      by_cases g : m = 0
      · rw [if_pos g, if_neg (by omega)]
        omega
      · rw [if_neg g]
        split <;> omega
    have c60 := ct_60 G (x := m) (y := ((1 : Nat) : Int)) (by omega) (by omega) (by omega) (by omega) h'
    rw [show ((1 : Nat) : Int) = 1 from rfl, emin] at c60
    refine hR 40 61 _ _ _ _ _ _ rfl ?_
    refine jcall c60 ?_
    by_cases g : m = 0
    · rw [if_pos g]
      refine ⟨k'.1, jcallV (ct_61_0 G) ?_⟩
      refine jcall c60 ?_
      rw [if_pos g]
      exact left 0 h' _ _ _ (by omega) hf hl hY.1 (Or.inl rfl) rfl
    · rw [if_neg g]
      refine ⟨k'.1, jcallV (ct_61_1 G k' rfl (hw1 (by omega))) ?_⟩
      have c60' := ct_60 G (x := m) (y := ((1 : Nat) : Int)) (by omega) (by omega) (by omega) (by omega) (sI h' 5 0 (jI ((wd (h'.1 5 0) / 1073741824 : Nat) : Int)))
      rw [show ((1 : Nat) : Int) = 1 from rfl, emin, if_neg g] at c60'
      refine jcall c60' ?_
      refine left 1 _ _ _ _ (by omega) (hf.sI (by simp) _ _) ?_ ?_ (Or.inr ⟨?_, g⟩) rfl
      · rw [← hl]
        exact congrFun (sI_a _ (by decide) _ _) 1
      · rw [show (sI h' 5 0 (jI ((wd (h'.1 5 0) / 1073741824 : Nat) : Int))).1 4 = h'.1 4 from sI_a _ (by decide) _ _]
        exact hY.1
      · rw [show (sI h' 5 0 (jI ((wd (h'.1 5 0) / 1073741824 : Nat) : Int))).1 5 0 = jI ((wd (h'.1 5 0) / 1073741824 : Nat) : Int) from sI_at _ _ _ _, hY.2, ← hT30, Nat.mul_div_cancel _ hT, wd_jI]
        omega
  have loop : ∀ (c : Nat) (h' : mj_H) (kI : Int32), c ≤ m → FrI [3, 4, 5, 6] h h' → hI h' 3 1 = jI m → wd (h'.1 6 0) = 2147483648 → wd (h'.1 5 c) < 2 * T30 → (c < m → wd (h'.1 5 (c + 1)) = 0) → mag (h'.1 5) (c + 1) + 2 * T30 * 4294967296 ^ c * mag (fun i => h'.1 4 (c + i)) (m - c) = V * T30 → kI = jI ((c : Int) - 1) → Run 94 [some (.ref 3), some (.ref qd), some (.ref rm), some (.ref a), some (.ref b), some (.int (jI va.sign)), some (.int (jI va.sign)), some (.int (jI (1 : Nat))), some (.int (jI m)), some (.int (jI 30)), some (.int kI)] [] h' (0, 0) := by
    intro c
    induction c with
    | zero =>
      rintro h' kI hc hf hl h6 h5 h51 he rfl
      refine hR 40 49 _ _ _ _ _ _ rfl ?_
      refine ⟨fun c => ?_, fun c => absurd (by decide) c⟩
      refine r120 h' _ hf hl h5 h51 ?_
      rw [← he]
      have e1 : mag (h'.1 5) (0 + 1) = wd (h'.1 5 0) := by
        show 0 + wd (h'.1 5 0) * 4294967296 ^ 0 = _
        omega
      have e2 : (fun i => h'.1 4 (0 + i)) = h'.1 4 := by
        funext i
        rw [Nat.zero_add]
      rw [e1, e2, Nat.pow_zero, Nat.mul_one, Nat.sub_zero]
    | succ c ih =>
      rintro h' kI hc hf hl h6 h5 h51 he rfl
      have k' := hk.fr hf.1
      have ek : ((c + 1 : Nat) : Int) - 1 = (c : Nat) := by omega
      rw [ek]
      have hr0 := wd_lt (h'.1 5 c)
      have hdm := Nat.div_add_mod (wd (h'.1 5 (c + 1)) * 4294967296 + wd (h'.1 5 c)) 2147483648
      have hrm := Nat.mod_lt (wd (h'.1 5 (c + 1)) * 4294967296 + wd (h'.1 5 c)) (show 0 < 2147483648 by decide)
      have hq1 : (wd (h'.1 5 (c + 1)) * 4294967296 + wd (h'.1 5 c)) / 2147483648 < 4294967296 := by
        have : wd (h'.1 5 (c + 1)) < 2147483648 := by omega
        omega
      generalize hqq : (wd (h'.1 5 (c + 1)) * 4294967296 + wd (h'.1 5 c)) / 2147483648 = q at hdm hq1
      generalize hrr : (wd (h'.1 5 (c + 1)) * 4294967296 + wd (h'.1 5 c)) % 2147483648 = rem at hdm hrm
      have c56 := ct_56 G k' (k := c) (q := q) (r0 := wd (h'.1 5 c)) (r1 := wd (h'.1 5 (c + 1))) (rem := rem) (P := q * 2147483648) (by omega) rfl rfl h6 rfl (by rw [Nat.mul_comm q]; exact hdm.symm) hrm (by omega)
      refine hR 40 49 _ _ _ _ _ _ rfl ?_
      refine ⟨fun c1 => ?_, fun c1 => ?_⟩
      · simp (disch := omega) only [mj_lcm, jI_lt, jI_le, jI_eq, jL_lt, jL_le, jL_eq, jI_lt0, jI_0le, jI_0lt, jI_le0, jI_eq0, jL_eq0, jI_L, jI_add, jI_sub, jI_mul, jI_neg, jL_add, jL_sub, jL_mul, jL_neg, jL_I, jI_div, jI_mod, jL_div, jL_mod] at c1
        omega
      · refine ⟨k'.1, _, k'.2.1, k'.1, jcallW c56 ?_⟩
        have k2 := (hk.fr hf.1)
        refine ⟨k'.2.2.1, ?_, ?_⟩
        · show vp_in (jI (c : Nat)) (hN h' 4)
          rw [k'.2.2.2.1]
          exact jI_in (by omega) (by omega) (by omega)
        · rw [jI_nat (by omega) (by omega), show Int.toNat (c : Nat) = c by omega]
          have g1 : ∀ i, (sI (sI (sI h' 5 c (jI rem)) 5 (c + 1) (jI 0)) 4 c (jI q)).1 5 i = if i = c + 1 then jI 0 else if i = c then jI rem else h'.1 5 i := by
            intro i
            rw [show (sI (sI (sI h' 5 c (jI rem)) 5 (c + 1) (jI 0)) 4 c (jI q)).1 5 = (sI (sI h' 5 c (jI rem)) 5 (c + 1) (jI 0)).1 5 from sI_a _ (by decide) _ _]
            by_cases e1 : i = c + 1
            · rw [if_pos e1, e1]
              exact sI_at _ _ _ _
            · rw [if_neg e1, show (sI (sI h' 5 c (jI rem)) 5 (c + 1) (jI 0)).1 5 i = (sI h' 5 c (jI rem)).1 5 i from sI_k _ _ e1 _]
              by_cases e2 : i = c
              · rw [if_pos e2, e2]
                exact sI_at _ _ _ _
              · rw [if_neg e2]
                exact sI_k _ _ e2 _
          have g2 : ∀ i, (sI (sI (sI h' 5 c (jI rem)) 5 (c + 1) (jI 0)) 4 c (jI q)).1 4 i = if i = c then jI q else h'.1 4 i := by
            intro i
            by_cases e1 : i = c
            · rw [if_pos e1, e1]
              exact sI_at _ _ _ _
            · rw [if_neg e1, show (sI (sI (sI h' 5 c (jI rem)) 5 (c + 1) (jI 0)) 4 c (jI q)).1 4 i = (sI (sI h' 5 c (jI rem)) 5 (c + 1) (jI 0)).1 4 i from sI_k _ _ e1 _, show (sI (sI h' 5 c (jI rem)) 5 (c + 1) (jI 0)).1 4 = (sI h' 5 c (jI rem)).1 4 from sI_a _ (by decide) _ _, show (sI h' 5 c (jI rem)).1 4 = h'.1 4 from sI_a _ (by decide) _ _]
          have hf3 : FrI [3, 4, 5, 6] h (sI (sI (sI h' 5 c (jI rem)) 5 (c + 1) (jI 0)) 4 c (jI q)) := ((hf.sI (by simp) _ _).sI (by simp) _ _).sI (by simp) _ _
          have hl3 : hI (sI (sI (sI h' 5 c (jI rem)) 5 (c + 1) (jI 0)) 4 c (jI q)) 3 1 = jI m := by
            rw [← hl]
            exact congrFun ((sI_a _ (by decide) _ _).trans ((sI_a _ (by decide) _ _).trans (sI_a _ (by decide) _ _))) 1
          have h63 : (sI (sI (sI h' 5 c (jI rem)) 5 (c + 1) (jI 0)) 4 c (jI q)).1 6 0 = h'.1 6 0 := congrFun ((sI_a _ (by decide) _ _).trans ((sI_a _ (by decide) _ _).trans (sI_a _ (by decide) _ _))) 0
          generalize sI (sI (sI h' 5 c (jI rem)) 5 (c + 1) (jI 0)) 4 c (jI q) = h3 at g1 g2 hf3 hl3 h63
          have wrem : wd (jI rem) = rem := by
            rw [wd_jI]
            omega
          have wq : wd (jI q) = q := by
            rw [wd_jI]
            omega
          refine ih h3 _ (by omega) hf3 hl3 (by rw [h63]; exact h6) ?_ ?_ ?_ ?_
          · rw [g1, if_neg (by omega), if_pos rfl, wrem]
            omega
          · intro _
            rw [g1, if_pos rfl]
            decide
          · have m1 : mag (h3.1 5) (c + 1) = mag (h'.1 5) c + rem * 4294967296 ^ c := by
              show mag (h3.1 5) c + wd (h3.1 5 c) * 4294967296 ^ c = _
              rw [g1 c, if_neg (by omega), if_pos rfl, wrem, mag_congr (g' := h'.1 5) (fun i hi => by rw [g1, if_neg (by omega), if_neg (by omega)])]
            have m2 : mag (h'.1 5) (c + 1 + 1) = mag (h'.1 5) c + wd (h'.1 5 c) * 4294967296 ^ c + wd (h'.1 5 (c + 1)) * 4294967296 ^ (c + 1) := rfl
            have m3 : mag (fun i => h3.1 4 (c + i)) (m - c) = q + 4294967296 * mag (fun i => h'.1 4 (c + 1 + i)) (m - (c + 1)) := by
              rw [show m - c = (m - (c + 1)) + 1 by omega, mag_shift]
              rw [show h3.1 4 (c + 0) = jI q by rw [g2, if_pos (by omega)], wq]
              congr 2
              refine mag_congr (fun i _ => ?_)
              rw [g2, if_neg (by omega), show c + (i + 1) = c + 1 + i by omega]
            rw [m1, m3]
            rw [m2, Nat.pow_succ] at he
            rw [hT31] at hdm
            rw [← he]
            clear hT30 hT31 wrem wq m1 m2 m3 hqq hrr h6 h63
            generalize mag (fun i => h'.1 4 (c + 1 + i)) (m - (c + 1)) = X at *
            generalize mag (h'.1 5) c = Y at *
            generalize wd (h'.1 5 c) = r0 at *
            generalize wd (h'.1 5 (c + 1)) = r1 at *
            generalize 4294967296 ^ c = Bc at *
            generalize 4294967296 = B at *
            have e1 : Bc * (2 * T30 * q + rem) = Bc * (r1 * B + r0) := by rw [hdm]
            grind
          · rw [jI_add]
            congr 1
  have r46 : ∀ (sI tI nI mI uI : Int32) (x10 : Option Value), sI = jI va.sign → tI = jI va.sign → nI = jI (1 : Nat) → mI = jI m → uI = jI 30 → Run 46 [some (.ref 3), some (.ref qd), some (.ref rm), some (.ref a), some (.ref b), some (.int sI), some (.int tI), some (.int nI), some (.int mI), some (.int uI), x10] [] h (0, 0) := by
    rintro sI tI nI mI uI x10 rfl rfl rfl rfl rfl
    refine hR 40 23 _ _ _ _ _ _ rfl ?_
    refine ⟨hk.1, _, hk.2.2.2.2.1, jcallP (ct_55 G (h := h) (a := a) (r := 5) (n := m) (N := 1025) a0 hk.2.2.2.2.2.1 hk.2.2.2.2.2.2.1 (by decide) a1 (by omega) (by omega) (by omega)) ?_⟩
    rintro o h1 ⟨rfl, f1, c, c1, c2, c3⟩
    have k' := hk.fr f1.1
    refine ⟨k'.1, _, k'.2.2.2.2.2.2.2.1, jcallP (ct_55 G (h := h1) (a := b) (r := 6) (n := 1) (N := 1024) (b0.fr f1.1) k'.2.2.2.2.2.2.2.2.1 k'.2.2.2.2.2.2.2.2.2 (by decide) (by decide) (by decide) (by omega) (by omega)) ?_⟩
    rintro o h2 ⟨rfl, f2, c', d1, d2, d3⟩
    have k'' := hk.fr (f2.1.trans f1.1)
    have eb1 : h1.1 (b + 1) = h.1 (b + 1) := f1.2 _ (by simp; omega)
    have hby : wd (h2.1 6 0) = 2147483648 := by
      have e1 : mag (h2.1 6) 1 = 0 + wd (h2.1 6 0) * 4294967296 ^ 0 := rfl
      have e2 : mag (h1.1 (b + 1)) 1 = 0 + wd (h1.1 (b + 1) 0) * 4294967296 ^ 0 := rfl
      rw [e1, e2, eb1, hw0, Nat.pow_one, Nat.pow_zero, Nat.mul_one, Nat.mul_one] at d2
      have := wd_lt (h2.1 6 0)
      omega
    have e5 : h2.1 5 = h1.1 5 := f2.2 _ (by simp)
    have c43 := ct_43 G (x := 0) (y := (m : Int) - (1 : Nat) + 1) (by decide) (by decide) (by omega) (by omega) h2
    rw [← jI_add, ← jI_sub, show jI (if (0 : Int) < (m : Int) - (1 : Nat) + 1 then (m : Int) - (1 : Nat) + 1 else 0) = jI m by
      congr 1
      split <;> omega] at c43
    refine jcall c43 ?_
    refine ⟨k''.1, k''.1, ?_⟩
    rw [sI_at]
    have hf2 : FrI [3, 4, 5, 6] h (sI h2 3 1 (jI m)) := ((f1.trans f2).mono (T := [3, 4, 5, 6]) (by simp)).sI (by simp) _ _
    refine loop m (sI h2 3 1 (jI m)) _ (Nat.le_refl _) hf2 (sI_at _ _ _ _) ?_ ?_ (by omega) ?_ (jI_sub _ _)
    · rw [show (sI h2 3 1 (jI m)).1 6 = h2.1 6 from sI_a _ (by decide) _ _]
      exact hby
    · rw [show (sI h2 3 1 (jI m)).1 5 = h2.1 5 from sI_a _ (by decide) _ _, e5, c3 (by omega)]
      omega
    · rw [show (sI h2 3 1 (jI m)).1 5 = h2.1 5 from sI_a _ (by decide) _ _, e5, Nat.sub_self]
      show mag (h1.1 5) m + wd (h1.1 5 m) * 4294967296 ^ m + 2 * T30 * 4294967296 ^ m * 0 = V * T30
      rw [c3 (by omega), Nat.mul_zero, Nat.add_zero, c2, ← a4, hT30]
  have e21 : (2 : Int).sign = 1 := rfl
  have e11 : jI (1 : Nat) - jI 1 = jI (0 : Nat) := rfl
  have hb2 : h.1 (b + 1) 0 = jI ((2 : Nat) : Int) := by
    rw [← jI_wd (h.1 (b + 1) 0), hw0]
  have hin : vp_in (hI h b 1 - jI 1) (hN h (b + 1)) := by
    rw [b2, e11, b0.2.2.2.1]
    exact jI_in (by decide) (by decide) (by decide)
  have hvl : hI h (b + 1) (hI h b 1 - jI 1).toNatClampNeg = jI ((2 : Nat) : Int) := by
    rw [b2, e11, jI_nat (by decide) (by decide)]
    exact hb2
  have c54 := ct_54 G (a := 2) (L := 1) (by decide) (by decide) (by decide) h
  rw [← hvl] at c54
  have r31 : ∀ (sI tI nI mI : Int32) (x9 x10 : Option Value), sI = jI va.sign → tI = jI va.sign → nI = hI h b 1 → mI = jI m → Run 31 [some (.ref 3), some (.ref qd), some (.ref rm), some (.ref a), some (.ref b), some (.int sI), some (.int tI), some (.int nI), some (.int mI), x9, x10] [] h (0, 0) := by
    rintro sI tI nI mI x9 x10 e1 e2 rfl e4
    refine hR 40 15 _ _ _ _ _ _ rfl ?_
    refine ⟨b0.1, _, b0.2.1, Or.inl b0.2.2.1, hin, jcall c54 ?_⟩
    exact r46 _ _ _ _ _ _ e1 e2 b2 e4 rfl
  have r25 : ∀ (sI tI nI : Int32) (x8 x9 x10 : Option Value), sI = jI va.sign → tI = jI va.sign → nI = hI h b 1 → Run 25 [some (.ref 3), some (.ref qd), some (.ref rm), some (.ref a), some (.ref b), some (.int sI), some (.int tI), some (.int nI), x8, x9, x10] [] h (0, 0) := by
    rintro sI tI nI x8 x9 x10 e1 e2 e3
    refine hR 40 12 _ _ _ _ _ _ rfl ?_
    refine ⟨a0.1, ?_⟩
    exact r31 _ _ _ _ _ _ e1 e2 e3 a2
  have r18 : ∀ (sI tI : Int32) (x7 x8 x9 x10 : Option Value), sI = jI va.sign → tI = jI va.sign → Run 18 [some (.ref 3), some (.ref qd), some (.ref rm), some (.ref a), some (.ref b), some (.int sI), some (.int tI), x7, x8, x9, x10] [] h (0, 0) := by
    rintro sI tI x7 x8 x9 x10 e1 e2
    refine hR 40 9 _ _ _ _ _ _ rfl ?_
    refine ⟨b0.1, ?_⟩
    exact r25 _ _ _ _ _ _ e1 e2 rfl
  have r6 : ∀ (sI : Int32) (x6 x7 x8 x9 x10 : Option Value), sI = jI va.sign → Run 6 [some (.ref 3), some (.ref qd), some (.ref rm), some (.ref a), some (.ref b), some (.int sI), x6, x7, x8, x9, x10] [] h (0, 0) := by
    rintro sI x6 x7 x8 x9 x10 e1
    refine hR 40 3 _ _ _ _ _ _ rfl ?_
    refine ⟨a0.1, b0.1, ?_⟩
    refine r18 _ _ _ _ _ _ e1 ?_
    rw [sga, b3, jI_mul, e21, Int.mul_one]
  refine hR 40 0 _ _ _ _ _ _ rfl ?_
  refine ⟨a0.1, ?_⟩
  exact r6 _ _ _ _ _ _ sga
