/-! the model: solutions below 0 are offered; a pair is completed -/
def isBq (h : mj_H) (z : zI) : Prop := hJ h 1412 54 = jL z.1 ∧ hJ h 1412 55 = jL z.2
abbrev jBe (k : Nat) : Prop := k = 54 ∨ k = 55
abbrev l230 (x0 y0 : Int) (fI : Int32) (x6 x7 x8 x9 x10 x11 : Option Value) : mj_Ls := [some (.ref 1412), some (.long (jL x0)), none, some (.long (jL y0)), none, some (.int fI), x6, x7, x8, x9, x10, x11]
/-- FormHouseModel.offer(JJZ)V; cuts at [23, 25, 36, 38, 49, 51, 79, 119, 134, 136, 147] -/
def cl_230_3 : List mj_E := (138, false, .ifCond .ne 9, 3, 76, 0, 0, 0, 0) ::
  (141, false, .iload 11, 2, 0, 0, 0, 0, 0) ::
  (143, false, .ifCond .ne 4, 3, 76, 0, 0, 0, 0) ::
  (146, false, .return_, 1, 0, 0, 0, 0, 0) ::
  (147, true, .aload_n 0, 1, 0, 0, 0, 0, 0) ::
  (148, false, .lload 7, 2, 0, 0, 0, 0, 0) ::
  (150, false, .putfield 394, 3, 17, 54, 1, 0, 0) ::
  (153, false, .aload_n 0, 1, 0, 0, 0, 0, 0) ::
  (154, false, .lload 9, 2, 0, 0, 0, 0, 0) ::
  (156, false, .putfield 391, 3, 17, 55, 1, 0, 0) ::
  (159, false, .return_, 1, 0, 0, 0, 0, 0) ::
  []
def cl_230_2 : List mj_E := (88, false, .invokestatic 124, 3, 196, 1, 0, 0, 0) ::
  (91, false, .lcmp, 1, 0, 0, 0, 0, 0) ::
  (92, false, .ifCond .eq 27, 3, 62, 0, 0, 0, 0) ::
  (95, false, .lload 7, 2, 0, 0, 0, 0, 0) ::
  (97, false, .invokestatic 124, 3, 196, 1, 0, 0, 0) ::
  (100, false, .aload_n 0, 1, 0, 0, 0, 0, 0) ::
  (101, false, .getfield 394, 3, 17, 54, 1, 0, 0) ::
  (104, false, .invokestatic 124, 3, 196, 1, 0, 0, 0) ::
  (107, false, .lcmp, 1, 0, 0, 0, 0, 0) ::
  (108, false, .ifCond .ge 7, 3, 60, 0, 0, 0, 0) ::
  (111, false, .iconst 1, 1, 0, 0, 0, jI 1, 0) ::
  (112, false, .goto 22, 3, 70, 0, 0, 0, 0) ::
  (115, false, .iconst 0, 1, 0, 0, 0, jI 0, 0) ::
  (116, false, .goto 18, 3, 70, 0, 0, 0, 0) ::
  (119, true, .lload 7, 2, 0, 0, 0, 0, 0) ::
  (121, false, .aload_n 0, 1, 0, 0, 0, 0, 0) ::
  (122, false, .getfield 394, 3, 17, 54, 1, 0, 0) ::
  (125, false, .lcmp, 1, 0, 0, 0, 0, 0) ::
  (126, false, .ifCond .le 7, 3, 69, 0, 0, 0, 0) ::
  (129, false, .iconst 1, 1, 0, 0, 0, jI 1, 0) ::
  (130, false, .goto 4, 3, 70, 0, 0, 0, 0) ::
  (133, false, .iconst 0, 1, 0, 0, 0, jI 0, 0) ::
  (134, true, .istore 11, 2, 0, 0, 0, 0, 0) ::
  (136, true, .iload 5, 2, 0, 0, 0, 0, 0) ::
  cl_230_3
def cl_230_1 : List mj_E := (40, false, .ifCond .eq 8, 3, 28, 0, 0, 0, 0) ::
  (43, false, .lload_n 3, 1, 0, 0, 0, 0, 0) ::
  (44, false, .lneg, 1, 0, 0, 0, 0, 0) ::
  (45, false, .goto 4, 3, 29, 0, 0, 0, 0) ::
  (48, false, .lload_n 3, 1, 0, 0, 0, 0, 0) ::
  (49, true, .lstore 9, 2, 0, 0, 0, 0, 0) ::
  (51, true, .lload 9, 2, 0, 0, 0, 0, 0) ::
  (53, false, .aload_n 0, 1, 0, 0, 0, 0, 0) ::
  (54, false, .getfield 391, 3, 17, 55, 1, 0, 0) ::
  (57, false, .lcmp, 1, 0, 0, 0, 0, 0) ::
  (58, false, .ifCond .eq 21, 3, 44, 0, 0, 0, 0) ::
  (61, false, .lload 9, 2, 0, 0, 0, 0, 0) ::
  (63, false, .aload_n 0, 1, 0, 0, 0, 0, 0) ::
  (64, false, .getfield 391, 3, 17, 55, 1, 0, 0) ::
  (67, false, .lcmp, 1, 0, 0, 0, 0, 0) ::
  (68, false, .ifCond .ge 7, 3, 42, 0, 0, 0, 0) ::
  (71, false, .iconst 1, 1, 0, 0, 0, jI 1, 0) ::
  (72, false, .goto 62, 3, 70, 0, 0, 0, 0) ::
  (75, false, .iconst 0, 1, 0, 0, 0, jI 0, 0) ::
  (76, false, .goto 58, 3, 70, 0, 0, 0, 0) ::
  (79, true, .lload 7, 2, 0, 0, 0, 0, 0) ::
  (81, false, .invokestatic 124, 3, 196, 1, 0, 0, 0) ::
  (84, false, .aload_n 0, 1, 0, 0, 0, 0, 0) ::
  (85, false, .getfield 394, 3, 17, 54, 1, 0, 0) ::
  cl_230_2
def cl_230_0 : List mj_E := (0, false, .lload_n 3, 1, 0, 0, 0, 0, 0) ::
  (1, false, .lconst 0, 1, 0, 0, 0, 0, jL 0) ::
  (2, false, .lcmp, 1, 0, 0, 0, 0, 0) ::
  (3, false, .ifCond .lt 15, 3, 12, 0, 0, 0, 0) ::
  (6, false, .lload_n 3, 1, 0, 0, 0, 0, 0) ::
  (7, false, .lconst 0, 1, 0, 0, 0, 0, jL 0) ::
  (8, false, .lcmp, 1, 0, 0, 0, 0, 0) ::
  (9, false, .ifCond .ne 13, 3, 14, 0, 0, 0, 0) ::
  (12, false, .lload_n 1, 1, 0, 0, 0, 0, 0) ::
  (13, false, .lconst 0, 1, 0, 0, 0, 0, jL 0) ::
  (14, false, .lcmp, 1, 0, 0, 0, 0, 0) ::
  (15, false, .ifCond .ge 7, 3, 14, 0, 0, 0, 0) ::
  (18, false, .iconst 1, 1, 0, 0, 0, jI 1, 0) ::
  (19, false, .goto 4, 3, 15, 0, 0, 0, 0) ::
  (22, false, .iconst 0, 1, 0, 0, 0, jI 0, 0) ::
  (23, true, .istore 6, 2, 0, 0, 0, 0, 0) ::
  (25, true, .iload 6, 2, 0, 0, 0, 0, 0) ::
  (27, false, .ifCond .eq 8, 3, 21, 0, 0, 0, 0) ::
  (30, false, .lload_n 1, 1, 0, 0, 0, 0, 0) ::
  (31, false, .lneg, 1, 0, 0, 0, 0, 0) ::
  (32, false, .goto 4, 3, 22, 0, 0, 0, 0) ::
  (35, false, .lload_n 1, 1, 0, 0, 0, 0, 0) ::
  (36, true, .lstore 7, 2, 0, 0, 0, 0, 0) ::
  (38, true, .iload 6, 2, 0, 0, 0, 0, 0) ::
  cl_230_1
def cd_230 : List mj_E := cl_230_0
def cx_230 : mj_X := (0, [], [])
theorem tb_230 : mj_tab (mj_mt 230) cx_230 cd_230 mj_mh [(0, 0, 0), (0, 0, 0), (0, 0, 0), (0, 0, 0), (0, 0, 0), (0, 0, 0), (0, 0, 0), (0, 0, 0), (0, 0, 0), (0, 0, 0), (0, 0, 0), (0, 0, 0), (0, 0, 0), (0, 0, 0), (0, 0, 0), (0, 0, 0), (0, 0, 0), (0, 0, 0), (0, 0, 0), (0, 0, 0), (0, 0, 0), (0, 0, 0), (0, 0, 0), (0, 0, 0), (0, 0, 0), (0, 0, 0), (0, 0, 0), (0, 0, 0), (0, 0, 0), (0, 0, 0), (0, 0, 0), (0, 0, 0), (7154, 0, 0), (0, 0, 0), (0, 0, 0), (0, 0, 0), (0, 0, 0), (7154, 0, 0), (0, 0, 0), (0, 0, 0), (0, 0, 0), (0, 0, 0), (0, 0, 0), (0, 0, 0), (0, 0, 0), (6233, 0, 0), (0, 0, 0), (7153, 0, 0), (6233, 0, 0), (0, 0, 0), (0, 0, 0), (0, 0, 0), (6233, 0, 0), (0, 0, 0), (7153, 0, 0), (6233, 0, 0), (0, 0, 0), (0, 0, 0), (0, 0, 0), (0, 0, 0), (0, 0, 0), (0, 0, 0), (0, 0, 0), (0, 0, 0), (7153, 0, 0), (0, 0, 0), (0, 0, 0), (0, 0, 0), (0, 0, 0), (0, 0, 0), (0, 0, 0), (0, 0, 0), (0, 0, 0), (0, 0, 0), (0, 0, 0), (0, 0, 0), (0, 0, 0), (0, 0, 0), (7153, 0, 0), (0, 0, 0), (0, 0, 0), (7154, 0, 0), (0, 0, 0)] = true := mj_tab_f (by decide +kernel)
theorem ct_230 (G : mj_G) {h : mj_H} (L : isLam h) {x0 y0 : Int} (hx : -4611686018427387904 < x0 ∧ x0 < 4611686018427387904) (hy : -4611686018427387904 < y0 ∧ y0 < 4611686018427387904) {b : zI} (hb : isBq h b) (hbb : (-4611686018427387904 < b.1 ∧ b.1 < 4611686018427387904) ∧ -4611686018427387904 < b.2 ∧ b.2 < 4611686018427387904) {fst : Bool} (hf : fst = false → 0 ≤ b.2) : mj_Ct G (mj_mt 230) 0 0 [.ref 1412, .long (jL x0), .long (jL y0), .int (jI (if fst = true then 1 else 0))] h (fun o h' => o = .returned none ∧ (∃ c : zI, isBq h' c ∧ ((c = trn (x0, y0) ∧ (fst = true ∨ btZ (trn (x0, y0)) b)) ∨ (c = b ∧ fst = false ∧ ¬ btZ (trn (x0, y0)) b))) ∧ FrM noT jBe noT h h') := by
  obtain ⟨b1, b2⟩ := hb
  have k := L.K 1412 rfl
  obtain ⟨t, ht⟩ : ∃ t : zI, t = trn (x0, y0) := ⟨_, rfl⟩
  obtain ⟨tv, htv⟩ : ∃ v : Int, v = if y0 < 0 ∨ (y0 = 0 ∧ x0 < 0) then 1 else 0 := ⟨_, rfl⟩
  have ht1 : t = if tv = 0 then (x0, y0) else (-x0, -y0) := by
    rw [ht, htv]
    unfold trn
    show (if 0 < y0 ∨ (y0 = 0 ∧ 0 < x0) then (x0, y0) else (-x0, -y0)) = _
    by_cases z : y0 < 0 ∨ (y0 = 0 ∧ x0 < 0)
    · rw [if_neg (by omega), if_pos z, if_neg (by decide)]
    · rw [if_neg z, if_pos rfl]
      by_cases z2 : 0 < y0 ∨ (y0 = 0 ∧ 0 < x0)
      · rw [if_pos z2]
      · rw [if_neg z2, show x0 = 0 by omega, show y0 = 0 by omega]
        rfl
  have htv01 : (tv = 1 ∧ (y0 < 0 ∨ (y0 = 0 ∧ x0 < 0))) ∨ (tv = 0 ∧ ¬ (y0 < 0 ∨ (y0 = 0 ∧ x0 < 0))) := by
    by_cases z : y0 < 0 ∨ (y0 = 0 ∧ x0 < 0)
    · exact Or.inl ⟨by rw [htv, if_pos z], z⟩
    · exact Or.inr ⟨by rw [htv, if_neg z], z⟩
  have t0 : 0 ≤ t.2 ∧ (-4611686018427387904 < t.1 ∧ t.1 < 4611686018427387904) ∧ t.2 < 4611686018427387904 := by
    rw [ht1]
    rcases htv01 with ⟨e, z⟩ | ⟨e, z⟩
    · rw [e, if_neg (by decide)]
      show 0 ≤ -y0 ∧ (_ < -x0 ∧ -x0 < _) ∧ -y0 < _
      omega
    · rw [e, if_pos rfl]
      show 0 ≤ y0 ∧ (_ < x0 ∧ x0 < _) ∧ y0 < _
      omega
  rw [← ht]
  refine mj_Ct_of mj_ok tb_230 rfl rfl (Nat.le_of_ble_eq_true rfl) (fun Run hR => ?_)
  have r147 : ∀ (x6 : Option Value) (x11 : Int32), (fst = true ∨ btZ t b) → Run 147 (l230 x0 y0 (jI (if fst = true then 1 else 0)) x6 (some (.long (jL t.1))) none (some (.long (jL t.2))) none (some (.int x11))) [] h (0, 0) := by
    intro x6 x11 hz
    refine hR 60 76 _ _ _ _ _ _ rfl ?_
    exact ⟨k, k, rfl, ⟨t, ⟨rfl, rfl⟩, Or.inl ⟨rfl, hz⟩⟩, ((FrM.refl noT jBe noT h).fJ (k := 54) (by omega) _).fJ (k := 55) (by omega) _⟩
  have r134 : ∀ (x6 x11 : Option Value) (v : Int), ((v = 1 ∧ (fst = false → btZ t b)) ∨ (v = 0 ∧ (fst = false → ¬ btZ t b))) → Run 134 (l230 x0 y0 (jI (if fst = true then 1 else 0)) x6 (some (.long (jL t.1))) none (some (.long (jL t.2))) none x11) [.int (jI v)] h (0, 0) := by
    intro x6 x11 v hv
    have r136 : Run 136 (l230 x0 y0 (jI (if fst = true then 1 else 0)) x6 (some (.long (jL t.1))) none (some (.long (jL t.2))) none (some (.int (jI v)))) [] h (0, 0) := by
      refine hR 60 71 _ _ _ _ _ _ rfl ?_
      by_cases hfs : fst = true
      · refine ⟨fun c => ?_, fun c => r147 _ _ (Or.inl hfs)⟩
        rw [if_pos hfs] at c
        exact absurd c (by decide)
      · have hff : fst = false := by
          rw [Bool.not_eq_true] at hfs
          exact hfs
        refine ⟨fun c => ?_, fun c => ?_⟩
        · rcases hv with ⟨rfl, hq⟩ | ⟨rfl, hq⟩
          · exact ⟨fun c2 => absurd c2 (by decide), fun c2 => r147 _ _ (Or.inr (hq hff))⟩
          · exact ⟨fun c2 => ⟨rfl, ⟨b, ⟨b1, b2⟩, Or.inr ⟨rfl, hff, hq hff⟩⟩, FrM.refl _ _ _ h⟩, fun c2 => absurd rfl c2⟩
        · rw [if_neg hfs] at c
          exact absurd rfl c
    refine hR 60 70 _ _ _ _ _ _ rfl ?_
    exact r136
  have r119 : ∀ (x6 x11 : Option Value), t.2 = b.2 → t.1.natAbs = b.1.natAbs → Run 119 (l230 x0 y0 (jI (if fst = true then 1 else 0)) x6 (some (.long (jL t.1))) none (some (.long (jL t.2))) none x11) [] h (0, 0) := by
    intro x6 x11 e1 e2
    refine hR 60 62 _ _ _ _ _ _ rfl ?_
    refine ⟨k, fun c => ?_, fun c => ?_⟩
    · simp only [mj_lcm, b1] at c
      simp (disch := omega) only [mj_lcm, jI_lt, jI_le, jI_eq, jL_lt, jL_le, jL_eq, jI_lt0, jI_0le, jI_0lt, jI_le0, jI_eq0, jL_eq0, jI_L, jI_add, jI_sub, jI_mul, jI_neg, jL_add, jL_sub, jL_mul, jL_neg, jL_I, jI_div, jI_mod, jL_div, jL_mod] at c
      refine r134 _ _ 0 (Or.inr ⟨rfl, fun hff => ?_⟩)
      unfold btZ
      omega
    · simp only [mj_lcm, b1] at c
      simp (disch := omega) only [mj_lcm, jI_lt, jI_le, jI_eq, jL_lt, jL_le, jL_eq, jI_lt0, jI_0le, jI_0lt, jI_le0, jI_eq0, jL_eq0, jI_L, jI_add, jI_sub, jI_mul, jI_neg, jL_add, jL_sub, jL_mul, jL_neg, jL_I, jI_div, jI_mod, jL_div, jL_mod] at c
      refine r134 _ _ 1 (Or.inl ⟨rfl, fun hff => ?_⟩)
      unfold btZ
      omega
  have c196t := ct_196 G (x := t.1) (by omega) (by omega) h
  have c196b := ct_196 G (x := b.1) (by omega) (by omega) h
  rw [← b1] at c196b
  have r79 : ∀ (x6 x11 : Option Value), t.2 = b.2 → Run 79 (l230 x0 y0 (jI (if fst = true then 1 else 0)) x6 (some (.long (jL t.1))) none (some (.long (jL t.2))) none x11) [] h (0, 0) := by
    intro x6 x11 e1
    refine hR 60 44 _ _ _ _ _ _ rfl ?_
    refine jcall c196t ⟨k, jcall c196b ?_⟩
    refine ⟨fun c => ?_, fun c => jcall c196t ⟨k, jcall c196b ⟨fun c2 => ?_, fun c2 => ?_⟩⟩⟩
    · simp only [mj_lcm] at c
      rw [jL_eq (by omega) (by omega) (by omega) (by omega)] at c
      exact r119 _ _ e1 (by omega)
    · simp only [mj_lcm] at c c2
      rw [jL_eq (by omega) (by omega) (by omega) (by omega)] at c
      rw [jL_le (by omega) (by omega) (by omega) (by omega)] at c2
      refine r134 _ _ 0 (Or.inr ⟨rfl, fun hff => ?_⟩)
      unfold btZ
      omega
    · simp only [mj_lcm] at c c2
      rw [jL_eq (by omega) (by omega) (by omega) (by omega)] at c
      rw [jL_le (by omega) (by omega) (by omega) (by omega)] at c2
      refine r134 _ _ 1 (Or.inl ⟨rfl, fun hff => ?_⟩)
      unfold btZ
      omega
  have r51 : ∀ (x6 x11 : Option Value), Run 51 (l230 x0 y0 (jI (if fst = true then 1 else 0)) x6 (some (.long (jL t.1))) none (some (.long (jL t.2))) none x11) [] h (0, 0) := by
    intro x6 x11
    refine hR 60 30 _ _ _ _ _ _ rfl ?_
    refine ⟨k, fun c => ?_, fun c => ⟨k, fun c2 => ?_, fun c2 => ?_⟩⟩
    · simp only [mj_lcm, b2] at c
      simp (disch := omega) only [mj_lcm, jI_lt, jI_le, jI_eq, jL_lt, jL_le, jL_eq, jI_lt0, jI_0le, jI_0lt, jI_le0, jI_eq0, jL_eq0, jI_L, jI_add, jI_sub, jI_mul, jI_neg, jL_add, jL_sub, jL_mul, jL_neg, jL_I, jI_div, jI_mod, jL_div, jL_mod] at c
      exact r79 _ _ c
    · simp only [mj_lcm, b2] at c c2
      simp (disch := omega) only [mj_lcm, jI_lt, jI_le, jI_eq, jL_lt, jL_le, jL_eq, jI_lt0, jI_0le, jI_0lt, jI_le0, jI_eq0, jL_eq0, jI_L, jI_add, jI_sub, jI_mul, jI_neg, jL_add, jL_sub, jL_mul, jL_neg, jL_I, jI_div, jI_mod, jL_div, jL_mod] at c c2
      refine r134 _ _ 0 (Or.inr ⟨rfl, fun hff => ?_⟩)
      have := hf hff
      unfold btZ
      omega
    · simp only [mj_lcm, b2] at c c2
      simp (disch := omega) only [mj_lcm, jI_lt, jI_le, jI_eq, jL_lt, jL_le, jL_eq, jI_lt0, jI_0le, jI_0lt, jI_le0, jI_eq0, jL_eq0, jI_L, jI_add, jI_sub, jI_mul, jI_neg, jL_add, jL_sub, jL_mul, jL_neg, jL_I, jI_div, jI_mod, jL_div, jL_mod] at c c2
      refine r134 _ _ 1 (Or.inl ⟨rfl, fun hff => ?_⟩)
      have := hf hff
      unfold btZ
      omega
  have r49 : ∀ (yL : Int64) (x6 x9 x10 x11 : Option Value), yL = jL t.2 → Run 49 (l230 x0 y0 (jI (if fst = true then 1 else 0)) x6 (some (.long (jL t.1))) none x9 x10 x11) [.long yL] h (0, 0) := by
    rintro yL x6 x9 x10 x11 rfl
    refine hR 60 29 _ _ _ _ _ _ rfl ?_
    exact r51 _ _
  have r38 : ∀ (x9 x10 x11 : Option Value), Run 38 (l230 x0 y0 (jI (if fst = true then 1 else 0)) (some (.int (jI tv))) (some (.long (jL t.1))) none x9 x10 x11) [] h (0, 0) := by
    intro x9 x10 x11
    refine hR 60 23 _ _ _ _ _ _ rfl ?_
    rcases htv01 with ⟨e, z⟩ | ⟨e, z⟩
    · refine ⟨fun c => ?_, fun c => r49 _ _ _ _ _ ?_⟩
      · rw [e] at c
        exact absurd c (by decide)
      · rw [jL_neg, ht1, e, if_neg (by decide)]
    · refine ⟨fun c => r49 _ _ _ _ _ ?_, fun c => ?_⟩
      · rw [ht1, e, if_pos rfl]
      · rw [e] at c
        exact absurd rfl c
  have r36 : ∀ (xL : Int64) (x7 x8 x9 x10 x11 : Option Value), xL = jL t.1 → Run 36 (l230 x0 y0 (jI (if fst = true then 1 else 0)) (some (.int (jI tv))) x7 x8 x9 x10 x11) [.long xL] h (0, 0) := by
    rintro xL x7 x8 x9 x10 x11 rfl
    refine hR 60 22 _ _ _ _ _ _ rfl ?_
    exact r38 _ _ _
  have r25 : ∀ (x7 x8 x9 x10 x11 : Option Value), Run 25 (l230 x0 y0 (jI (if fst = true then 1 else 0)) (some (.int (jI tv))) x7 x8 x9 x10 x11) [] h (0, 0) := by
    intro x7 x8 x9 x10 x11
    refine hR 60 16 _ _ _ _ _ _ rfl ?_
    rcases htv01 with ⟨e, z⟩ | ⟨e, z⟩
    · refine ⟨fun c => ?_, fun c => r36 _ _ _ _ _ _ ?_⟩
      · rw [e] at c
        exact absurd c (by decide)
      · rw [jL_neg, ht1, e, if_neg (by decide)]
    · refine ⟨fun c => r36 _ _ _ _ _ _ ?_, fun c => ?_⟩
      · rw [ht1, e, if_pos rfl]
      · rw [e] at c
        exact absurd rfl c
  have r23 : ∀ (vI : Int32) (x6 x7 x8 x9 x10 x11 : Option Value), vI = jI tv → Run 23 (l230 x0 y0 (jI (if fst = true then 1 else 0)) x6 x7 x8 x9 x10 x11) [.int vI] h (0, 0) := by
    rintro vI x6 x7 x8 x9 x10 x11 rfl
    refine hR 60 15 _ _ _ _ _ _ rfl ?_
    exact r25 _ _ _ _ _
  refine hR 60 0 _ _ _ _ _ _ rfl ?_
  refine ⟨fun c => ?_, fun c => ⟨fun c2 => ⟨fun c3 => ?_, fun c3 => ?_⟩, fun c2 => ?_⟩⟩
  · simp only [mj_lcm] at c
    have c' : jL y0 < jL 0 := c
    rw [jL_lt (by omega) (by omega) (by omega) (by omega)] at c'
    exact r23 _ _ _ _ _ _ _ (by rw [show tv = 1 by omega])
  · simp only [mj_lcm] at c c3
    have c2' : jL y0 = jL 0 := c2
    have c3' : jL 0 ≤ jL x0 := c3
    rw [jL_eq (by omega) (by omega) (by omega) (by omega)] at c2'
    rw [jL_le (by omega) (by omega) (by omega) (by omega)] at c3'
    exact r23 _ _ _ _ _ _ _ (by rw [show tv = 0 by omega])
  · simp only [mj_lcm] at c c3
    have c2' : jL y0 = jL 0 := c2
    have c3' : ¬ jL 0 ≤ jL x0 := c3
    rw [jL_eq (by omega) (by omega) (by omega) (by omega)] at c2'
    rw [jL_le (by omega) (by omega) (by omega) (by omega)] at c3'
    exact r23 _ _ _ _ _ _ _ (by rw [show tv = 1 by omega])
  · simp only [mj_lcm] at c
    have c' : ¬ jL y0 < jL 0 := c
    have c2' : ¬ jL y0 = jL 0 := c2
    rw [jL_lt (by omega) (by omega) (by omega) (by omega)] at c'
    rw [jL_eq (by omega) (by omega) (by omega) (by omega)] at c2'
    exact r23 _ _ _ _ _ _ _ (by rw [show tv = 0 by omega])
