/-! contracts: rows of roots -/
/-- the first numbers of a row of ints -/
def isIa (h : mj_H) (c n : Nat) (A : Nat → pI) : Prop := ∀ i, i < n → hI h c i = jI (A i).1 ∧ (-1073741824 < (A i).1 ∧ (A i).1 < 1073741824) ∧ (A i).2 = 0
theorem ia_put {h : mj_H} {c n i : Nat} {X : Nat → pI} {v : pI} (a : isIa h c n X) (hv1 : -1073741824 < v.1 ∧ v.1 < 1073741824) (hv2 : v.2 = 0) : isIa (sI h c i (jI v.1)) c n (upN X i v) := by
  intro k hk
  unfold upN
  by_cases g : k = i
  · subst g
    rw [if_pos rfl]
    exact ⟨sI_at _ _ _ _, hv1, hv2⟩
  · rw [if_neg g]
    obtain ⟨b1, b2⟩ := a k hk
    exact ⟨(sI_k _ _ g _).trans b1, b2⟩
/-- FormHouse.rise([II)V; cuts at [2, 18, 24, 34, 37, 64, 73, 85] -/
def cl_156_2 : List mj_E := (68, false, .istore 5, 2, 0, 0, 0, 0, 0) ::
  (70, false, .goto (-33), 3, 27, 0, 0, 0, 0) ::
  (73, true, .aload_n 0, 1, 0, 0, 0, 0, 0) ::
  (74, false, .iload 5, 2, 0, 0, 0, 0, 0) ::
  (76, false, .iload 4, 2, 0, 0, 0, 0, 0) ::
  (78, false, .iastore, 1, 0, 0, 0, 0, 0) ::
  (79, false, .iinc 3 1, 3, 0, 0, 0, jI 1, 0) ::
  (82, false, .goto (-58), 3, 18, 0, 0, 0, 0) ::
  (85, true, .iload_n 2, 1, 0, 0, 0, 0, 0) ::
  (86, false, .iconst 3, 1, 0, 0, 0, jI 3, 0) ::
  (87, false, .idiv, 1, 0, 0, 0, 0, 0) ::
  (88, false, .istore_n 2, 1, 0, 0, 0, 0, 0) ::
  (89, false, .goto (-71), 3, 14, 0, 0, 0, 0) ::
  (92, false, .return_, 1, 0, 0, 0, 0, 0) ::
  []
def cl_156_1 : List mj_E := (32, false, .istore 4, 2, 0, 0, 0, 0, 0) ::
  (34, true, .iload_n 3, 1, 0, 0, 0, 0, 0) ::
  (35, false, .istore 5, 2, 0, 0, 0, 0, 0) ::
  (37, true, .iload 5, 2, 0, 0, 0, 0, 0) ::
  (39, false, .iload_n 2, 1, 0, 0, 0, 0, 0) ::
  (40, false, .if_icmp .lt 33, 3, 50, 0, 0, 0, 0) ::
  (43, false, .aload_n 0, 1, 0, 0, 0, 0, 0) ::
  (44, false, .iload 5, 2, 0, 0, 0, 0, 0) ::
  (46, false, .iload_n 2, 1, 0, 0, 0, 0, 0) ::
  (47, false, .isub, 1, 0, 0, 0, 0, 0) ::
  (48, false, .iaload, 1, 0, 0, 0, 0, 0) ::
  (49, false, .iload 4, 2, 0, 0, 0, 0, 0) ::
  (51, false, .if_icmp .le 22, 3, 50, 0, 0, 0, 0) ::
  (54, false, .aload_n 0, 1, 0, 0, 0, 0, 0) ::
  (55, false, .iload 5, 2, 0, 0, 0, 0, 0) ::
  (57, false, .aload_n 0, 1, 0, 0, 0, 0, 0) ::
  (58, false, .iload 5, 2, 0, 0, 0, 0, 0) ::
  (60, false, .iload_n 2, 1, 0, 0, 0, 0, 0) ::
  (61, false, .isub, 1, 0, 0, 0, 0, 0) ::
  (62, false, .iaload, 1, 0, 0, 0, 0, 0) ::
  (63, false, .iastore, 1, 0, 0, 0, 0, 0) ::
  (64, true, .iload 5, 2, 0, 0, 0, 0, 0) ::
  (66, false, .iload_n 2, 1, 0, 0, 0, 0, 0) ::
  (67, false, .isub, 1, 0, 0, 0, 0, 0) ::
  cl_156_2
def cl_156_0 : List mj_E := (0, false, .iconst 1, 1, 0, 0, 0, jI 1, 0) ::
  (1, false, .istore_n 2, 1, 0, 0, 0, 0, 0) ::
  (2, true, .iload_n 2, 1, 0, 0, 0, 0, 0) ::
  (3, false, .iload_n 1, 1, 0, 0, 0, 0, 0) ::
  (4, false, .iconst 3, 1, 0, 0, 0, jI 3, 0) ::
  (5, false, .idiv, 1, 0, 0, 0, 0, 0) ::
  (6, false, .if_icmp .ge 12, 3, 14, 0, 0, 0, 0) ::
  (9, false, .iconst 3, 1, 0, 0, 0, jI 3, 0) ::
  (10, false, .iload_n 2, 1, 0, 0, 0, 0, 0) ::
  (11, false, .imul, 1, 0, 0, 0, 0, 0) ::
  (12, false, .iconst 1, 1, 0, 0, 0, jI 1, 0) ::
  (13, false, .iadd, 1, 0, 0, 0, 0, 0) ::
  (14, false, .istore_n 2, 1, 0, 0, 0, 0, 0) ::
  (15, false, .goto (-13), 3, 2, 0, 0, 0, 0) ::
  (18, true, .iload_n 2, 1, 0, 0, 0, 0, 0) ::
  (19, false, .ifCond .le 73, 3, 61, 0, 0, 0, 0) ::
  (22, false, .iload_n 2, 1, 0, 0, 0, 0, 0) ::
  (23, false, .istore_n 3, 1, 0, 0, 0, 0, 0) ::
  (24, true, .iload_n 3, 1, 0, 0, 0, 0, 0) ::
  (25, false, .iload_n 1, 1, 0, 0, 0, 0, 0) ::
  (26, false, .if_icmp .ge 59, 3, 56, 0, 0, 0, 0) ::
  (29, false, .aload_n 0, 1, 0, 0, 0, 0, 0) ::
  (30, false, .iload_n 3, 1, 0, 0, 0, 0, 0) ::
  (31, false, .iaload, 1, 0, 0, 0, 0, 0) ::
  cl_156_1
def cd_156 : List mj_E := cl_156_0
def cx_156 : mj_X := (0, [], [])
theorem tb_156 : mj_tab (mj_mt 156) cx_156 cd_156 mj_mh [(0, 0, 0), (0, 0, 0), (0, 0, 0), (0, 0, 0), (0, 0, 0), (0, 0, 0), (0, 0, 0), (0, 0, 0), (0, 0, 0), (0, 0, 0), (0, 0, 0), (0, 0, 0), (0, 0, 0), (0, 0, 0), (0, 0, 0), (0, 0, 0), (0, 0, 0), (0, 0, 0), (0, 0, 0), (0, 0, 0), (0, 0, 0), (0, 0, 0), (0, 0, 0), (0, 0, 0), (0, 0, 0), (0, 0, 0), (0, 0, 0), (0, 0, 0), (0, 0, 0), (0, 0, 0), (0, 0, 0), (0, 0, 0), (0, 0, 0), (0, 0, 0), (0, 0, 0), (0, 0, 0), (0, 0, 0), (0, 0, 0), (0, 0, 0), (0, 0, 0), (0, 0, 0), (0, 0, 0), (0, 0, 0), (0, 0, 0), (0, 0, 0), (0, 0, 0), (0, 0, 0), (0, 0, 0), (0, 0, 0), (0, 0, 0), (0, 0, 0), (0, 0, 0), (0, 0, 0), (0, 0, 0), (0, 0, 0), (0, 0, 0), (0, 0, 0), (0, 0, 0), (0, 0, 0), (0, 0, 0), (0, 0, 0), (0, 0, 0)] = true := mj_tab_f (by decide +kernel)
theorem ct_156 (G : mj_G) {h : mj_H} {c n : Nat} {A : Nat → pI} (hk : hK h c = 1) (hN4 : hN h c = 4096) (hn : n ≤ 4096) (ha : isIa h c n A) : mj_Ct G (mj_mt 156) 0 0 [.ref c, .int (jI n)] h (fun o h' => o = .returned none ∧ ∃ B, isIa h' c n B ∧ PermN n A B ∧ srt n B ∧ FrI [c] h h') := by
  refine mj_Ct_of mj_ok tb_156 rfl rfl (Nat.le_of_ble_eq_true rfl) (fun Run hR => ?_)
  have kk : ∀ {h' : mj_H}, FrI [c] h h' → hK h' c = 1 := fun F => (fK F.1 _).trans hk
  have vin : ∀ {h' : mj_H} {i : Nat}, FrI [c] h h' → i < 4096 → vp_in (jI i) (hN h' c) := by
    intro h' i F hi
    have : hN h' c = 4096 := by
      show (h'.2.2.2.1 c).2 = 4096
      rw [F.1]
      exact hN4
    rw [this]
    exact jI_in (by omega) (by omega) (by omega)
  have nat : ∀ {i : Nat}, i < 4096 → (jI (i : Int)).toNatClampNeg = i := by
    intro i hi
    rw [jI_nat (by omega) (by omega), Int.toNat_natCast]
  have pass : ∀ (g : Nat), 0 < g → g ≤ 4096 → (∀ (B : Nat → pI) (h' : mj_H) (x3 x4 x5 : Option Value), isIa h' c n B → PermN n A B → (g = 1 → srt n B) → FrI [c] h h' → Run 85 [some (.ref c), some (.int (jI n)), some (.int (jI g)), x3, x4, x5] [] h' (0, 0)) → ∀ (m k : Nat) (kI : Int32) (X : Nat → pI) (h' : mj_H) (x4 x5 : Option Value), n ≤ k + m → isIa h' c n X → PermN n A X → (g = 1 → srt (min k n) X) → FrI [c] h h' → kI = jI k → k < 2147483648 → Run 24 [some (.ref c), some (.int (jI n)), some (.int (jI g)), some (.int kI), x4, x5] [] h' (0, 0) := by
    intro g g0 gb done m
    induction m with
    | zero =>
      rintro k kI X h' x4 x5 hm hX hP hS F rfl hk'
      refine hR 60 18 _ _ _ _ _ _ rfl ?_
      refine ⟨fun c1 => ?_, fun c1 => ?_⟩
      · exact done X h' _ _ _ hX hP (fun e => by have := hS e; rwa [show min k n = n by omega] at this) F
      · simp (disch := omega) only [mj_lcm, jI_lt, jI_le, jI_eq, jL_lt, jL_le, jL_eq, jI_lt0, jI_0le, jI_0lt, jI_le0, jI_eq0, jL_eq0, jI_L, jI_add, jI_sub, jI_mul, jI_neg, jL_add, jL_sub, jL_mul, jL_neg, jL_I, jI_div, jI_mod, jL_div, jL_mod] at c1
        omega
    | succ m ih =>
      rintro k kI X h' x4 x5 hm hX hP hS F rfl hk'
      refine hR 60 18 _ _ _ _ _ _ rfl ?_
      refine ⟨fun c1 => ?_, fun c1 => ?_⟩
      · simp (disch := omega) only [mj_lcm, jI_lt, jI_le, jI_eq, jL_lt, jL_le, jL_eq, jI_lt0, jI_0le, jI_0lt, jI_le0, jI_eq0, jL_eq0, jI_L, jI_add, jI_sub, jI_mul, jI_neg, jL_add, jL_sub, jL_mul, jL_neg, jL_I, jI_div, jI_mod, jL_div, jL_mod] at c1
        exact done X h' _ _ _ hX hP (fun e => by have := hS e; rwa [show min k n = n by omega] at this) F
      · simp (disch := omega) only [mj_lcm, jI_lt, jI_le, jI_eq, jL_lt, jL_le, jL_eq, jI_lt0, jI_0le, jI_0lt, jI_le0, jI_eq0, jL_eq0, jI_L, jI_add, jI_sub, jI_mul, jI_neg, jL_add, jL_sub, jL_mul, jL_neg, jL_I, jI_div, jI_mod, jL_div, jL_mod] at c1
        have hkn : k < n := by omega
        obtain ⟨v1, v3, v4⟩ := hX k hkn
        generalize hv : X k = v at v1 v3 v4
        have r73 : ∀ (i : Nat) (Y : Nat → pI) (h2 : mj_H), i ≤ k → isIa h2 c n Y → PermN n A (upN Y i v) → (g = 1 → srt (k + 1) (upN Y i v)) → FrI [c] h h2 → Run 73 [some (.ref c), some (.int (jI n)), some (.int (jI g)), some (.int (jI k)), some (.int (jI v.1)), some (.int (jI i))] [] h2 (0, 0) := by
          intro i Y h2 hi hY hPY hSY F2
          refine hR 60 50 _ _ _ _ _ _ rfl ?_
          refine ⟨kk F2, vin F2 (by omega), ?_⟩
          rw [nat (by omega)]
          refine ih (k + 1) _ (upN Y i v) _ _ _ (by omega) (ia_put hY v3 v4) hPY (fun e => ?_) (F2.sI (by simp) _ _) (jI_add _ _) (by omega)
          rw [show min (k + 1) n = k + 1 by omega]
          exact hSY e
        have inner : ∀ (t i : Nat) (iI : Int32) (Y : Nat → pI) (h2 : mj_H), i ≤ t → i ≤ k → isIa h2 c n Y → PermN n A (upN Y i v) → (g = 1 → hole k i v Y) → FrI [c] h h2 → iI = jI i → Run 37 [some (.ref c), some (.int (jI n)), some (.int (jI g)), some (.int (jI k)), some (.int (jI v.1)), some (.int iI)] [] h2 (0, 0) := by
          intro t
          induction t with
          | zero =>
            rintro i iI Y h2 ht hi hY hPY hSY F2 rfl
            refine hR 60 27 _ _ _ _ _ _ rfl ?_
            refine ⟨fun c2 => ?_, fun c2 => ?_⟩
            · exact r73 i Y h2 hi hY hPY (fun e => hole_fill hi (hSY e) (Or.inl (by omega))) F2
            · simp (disch := omega) only [mj_lcm, jI_lt, jI_le, jI_eq, jL_lt, jL_le, jL_eq, jI_lt0, jI_0le, jI_0lt, jI_le0, jI_eq0, jL_eq0, jI_L, jI_add, jI_sub, jI_mul, jI_neg, jL_add, jL_sub, jL_mul, jL_neg, jL_I, jI_div, jI_mod, jL_div, jL_mod] at c2
              omega
          | succ t iht =>
            rintro i iI Y h2 ht hi hY hPY hSY F2 rfl
            refine hR 60 27 _ _ _ _ _ _ rfl ?_
            refine ⟨fun c2 => ?_, fun c2 => ?_⟩
            · simp (disch := omega) only [mj_lcm, jI_lt, jI_le, jI_eq, jL_lt, jL_le, jL_eq, jI_lt0, jI_0le, jI_0lt, jI_le0, jI_eq0, jL_eq0, jI_L, jI_add, jI_sub, jI_mul, jI_neg, jL_add, jL_sub, jL_mul, jL_neg, jL_I, jI_div, jI_mod, jL_div, jL_mod] at c2
              exact r73 i Y h2 hi hY hPY (fun e => hole_fill hi (hSY e) (Or.inl (by omega))) F2
            · simp (disch := omega) only [mj_lcm, jI_lt, jI_le, jI_eq, jL_lt, jL_le, jL_eq, jI_lt0, jI_0le, jI_0lt, jI_le0, jI_eq0, jL_eq0, jI_L, jI_add, jI_sub, jI_mul, jI_neg, jL_add, jL_sub, jL_mul, jL_neg, jL_I, jI_div, jI_mod, jL_div, jL_mod] at c2
              have eg : jI (i : Int) - jI (g : Int) = jI ((i - g : Nat) : Int) := by
                rw [jI_sub]
                congr 1
                omega
              obtain ⟨y1, y3, y4⟩ := hY (i - g) (by omega)
              refine ⟨Or.inl (kk F2), ?_, ?_⟩
              · rw [eg]
                exact vin F2 (by omega)
              · rw [eg, nat (by omega), show hI h2 c (i - g) = jI (Y (i - g)).1 from y1]
                refine ⟨fun c3 => ?_, fun c3 => ?_⟩
                · simp (disch := omega) only [mj_lcm, jI_lt, jI_le, jI_eq, jL_lt, jL_le, jL_eq, jI_lt0, jI_0le, jI_0lt, jI_le0, jI_eq0, jL_eq0, jI_L, jI_add, jI_sub, jI_mul, jI_neg, jL_add, jL_sub, jL_mul, jL_neg, jL_I, jI_div, jI_mod, jL_div, jL_mod] at c3
                  refine r73 i Y h2 hi hY hPY (fun e => hole_fill hi (hSY e) (Or.inr ?_)) F2
                  subst e
                  unfold le2
                  omega
                · simp (disch := omega) only [mj_lcm, jI_lt, jI_le, jI_eq, jL_lt, jL_le, jL_eq, jI_lt0, jI_0le, jI_0lt, jI_le0, jI_eq0, jL_eq0, jI_L, jI_add, jI_sub, jI_mul, jI_neg, jL_add, jL_sub, jL_mul, jL_neg, jL_I, jI_div, jI_mod, jL_div, jL_mod] at c3
                  refine ⟨Or.inl (kk F2), ?_, kk F2, vin F2 (by omega), ?_⟩
                  · rw [eg]
                    exact vin F2 (by omega)
                  · rw [eg, nat (by omega), nat (by omega), show hI h2 c (i - g) = jI (Y (i - g)).1 from y1]
                    have r64 : Run 64 [some (.ref c), some (.int (jI n)), some (.int (jI g)), some (.int (jI k)), some (.int (jI v.1)), some (.int (jI i))] [] (sI h2 c i (jI (Y (i - g)).1)) (0, 0) := by
                      refine hR 60 45 _ _ _ _ _ _ rfl ?_
                      refine iht (i - g) _ (upN Y i (Y (i - g))) _ (by omega) (by omega) (ia_put hY y3 y4) (hPY.move (by omega) (by omega) (by omega)) (fun e => ?_) (F2.sI (by simp) _ _) eg
                      subst e
                      refine hole_move hi (by omega) (hSY rfl) ?_
                      unfold le2
                      omega
                    exact r64
        have r34 : ∀ (aI : Int32) (x5 : Option Value), aI = jI v.1 → Run 34 [some (.ref c), some (.int (jI n)), some (.int (jI g)), some (.int (jI k)), some (.int aI), x5] [] h' (0, 0) := by
          rintro aI x5 rfl
          refine hR 60 25 _ _ _ _ _ _ rfl ?_
          refine inner k k _ X h' (Nat.le_refl _) (Nat.le_refl _) hX (hP.congr (fun i _ => ?_)) (fun e => hole_start ?_) F rfl
          · unfold upN
            by_cases e : i = k
            · rw [if_pos e, e, hv]
            · rw [if_neg e]
          · have := hS e
            rwa [show min k n = k by omega] at this
        refine ⟨Or.inl (kk F), vin F (by omega), ?_⟩
        refine r34 _ _ ?_
        rw [nat (by omega)]
        exact v1
  have down : ∀ (j : Nat) (gI : Int32) (B : Nat → pI) (h' : mj_H) (x3 x4 x5 : Option Value), gapN j ≤ 4096 → isIa h' c n B → PermN n A B → (j = 0 → srt n B) → FrI [c] h h' → gI = jI (gapN j) → Run 18 [some (.ref c), some (.int (jI n)), some (.int gI), x3, x4, x5] [] h' (0, 0) := by
    intro j
    induction j with
    | zero =>
      rintro gI B h' x3 x4 x5 hg hB hP hS F rfl
      refine hR 60 14 _ _ _ _ _ _ rfl ?_
      refine ⟨fun c1 => ?_, fun c1 => absurd (by decide) c1⟩
      exact ⟨rfl, B, hB, hP, hS rfl, F⟩
    | succ j ih =>
      rintro gI B h' x3 x4 x5 hg hB hP hS F rfl
      have eg : gapN (j + 1) = 3 * gapN j + 1 := rfl
      refine hR 60 14 _ _ _ _ _ _ rfl ?_
      refine ⟨fun c1 => ?_, fun c1 => ?_⟩
      · simp (disch := omega) only [mj_lcm, jI_lt, jI_le, jI_eq, jL_lt, jL_le, jL_eq, jI_lt0, jI_0le, jI_0lt, jI_le0, jI_eq0, jL_eq0, jI_L, jI_add, jI_sub, jI_mul, jI_neg, jL_add, jL_sub, jL_mul, jL_neg, jL_I, jI_div, jI_mod, jL_div, jL_mod] at c1
        omega
      · refine pass (gapN (j + 1)) (by omega) hg ?_ n (gapN (j + 1)) _ B h' _ _ (by omega) hB hP ?_ F rfl (by omega)
        · intro B2 h2 y3 y4 y5 hB2 hP2 hS2 F2
          refine hR 60 56 _ _ _ _ _ _ rfl ?_
          refine ⟨by decide, ?_⟩
          refine ih _ B2 h2 _ _ _ (by omega) hB2 hP2 (fun e => hS2 (by rw [eg, e]; rfl)) F2 ?_
          rw [jI_div (by omega) (by omega) (by decide) (by decide), Int.tdiv_eq_ediv_of_nonneg (by omega)]
          congr 1
          omega
        · intro e i j' h1 h2
          omega
  have up : ∀ (m j : Nat) (gI : Int32) (x3 x4 x5 : Option Value), 4096 ≤ gapN (j + 1) + m → gapN (j + 1) ≤ 4096 → gI = jI (gapN (j + 1)) → Run 2 [some (.ref c), some (.int (jI n)), some (.int gI), x3, x4, x5] [] h (0, 0) := by
    intro m
    induction m with
    | zero =>
      rintro j gI x3 x4 x5 hm hg rfl
      refine hR 60 2 _ _ _ _ _ _ rfl ?_
      refine ⟨by decide, ?_⟩
      rw [jI_div (by omega) (by omega) (by decide) (by decide), Int.tdiv_eq_ediv_of_nonneg (by omega)]
      refine ⟨fun c1 => ?_, fun c1 => ?_⟩
      · exact down (j + 1) _ A h _ _ _ hg ha (PermN.refl n A) (by omega) (FrI.refl _ _) rfl
      · simp (disch := omega) only [mj_lcm, jI_lt, jI_le, jI_eq, jL_lt, jL_le, jL_eq, jI_lt0, jI_0le, jI_0lt, jI_le0, jI_eq0, jL_eq0, jI_L, jI_add, jI_sub, jI_mul, jI_neg, jL_add, jL_sub, jL_mul, jL_neg, jL_I, jI_div, jI_mod, jL_div, jL_mod] at c1
        omega
    | succ m ih =>
      rintro j gI x3 x4 x5 hm hg rfl
      refine hR 60 2 _ _ _ _ _ _ rfl ?_
      refine ⟨by decide, ?_⟩
      rw [jI_div (by omega) (by omega) (by decide) (by decide), Int.tdiv_eq_ediv_of_nonneg (by omega)]
      refine ⟨fun c1 => ?_, fun c1 => ?_⟩
      · exact down (j + 1) _ A h _ _ _ hg ha (PermN.refl n A) (by omega) (FrI.refl _ _) rfl
      · simp (disch := omega) only [mj_lcm, jI_lt, jI_le, jI_eq, jL_lt, jL_le, jL_eq, jI_lt0, jI_0le, jI_0lt, jI_le0, jI_eq0, jL_eq0, jI_L, jI_add, jI_sub, jI_mul, jI_neg, jL_add, jL_sub, jL_mul, jL_neg, jL_I, jI_div, jI_mod, jL_div, jL_mod] at c1
        have e2 : gapN (j + 1 + 1) = 3 * gapN (j + 1) + 1 := rfl
        refine ih (j + 1) _ _ _ _ (by omega) (by omega) ?_
        rw [jI_mul, jI_add, e2]
        congr 1
  refine hR 60 0 _ _ _ _ _ _ rfl ?_
  exact up 4096 0 _ _ _ _ (by omega) (by decide) rfl
/-- the refs of the roots -/
def isRt (h : mj_H) (a b : Nat) : Prop := hR h 73 1 = some a ∧ hR h 73 2 = some b ∧ hR h 73 4 = some 76 ∧ ((a = 74 ∧ b = 75) ∨ (a = 75 ∧ b = 74))
/-- roots modulo a prime's part, so far -/
def isLc (mv : Int32) (h : mj_H) (ls : List Nat) : Prop := hI h 73 3 = jI ls.length ∧ ls.length ≤ 4096 ∧ (∀ i x : Nat, ls[i]? = some x → hI h 76 i = jI x ∧ x < 1073741824) ∧ hI h 73 0 = mv
def foL (step q : Nat) : Nat → Nat → List Nat
  | 0, _ => []
  | f + 1, x => if x < q then x :: foL step q f (x + step) else []
/-- FormHouse$Roots.fold(III)V; cuts at [5, 29] -/
def cd_148 : List mj_E := [(0, false, .iload_n 1, 1, 0, 0, 0, 0, 0),
  (1, false, .iload_n 2, 1, 0, 0, 0, 0, 0),
  (2, false, .irem, 1, 0, 0, 0, 0, 0),
  (3, false, .istore 4, 2, 0, 0, 0, 0, 0),
  (5, true, .iload 4, 2, 0, 0, 0, 0, 0),
  (7, false, .iload_n 3, 1, 0, 0, 0, 0, 0),
  (8, false, .if_icmp .ge 30, 3, 23, 0, 0, 0, 0),
  (11, false, .aload_n 0, 1, 0, 0, 0, 0, 0),
  (12, false, .getfield 18, 3, 14, 4, 2, 0, 0),
  (15, false, .aload_n 0, 1, 0, 0, 0, 0, 0),
  (16, false, .dup, 1, 0, 0, 0, 0, 0),
  (17, false, .getfield 32, 3, 14, 3, 0, 0, 0),
  (20, false, .dup_x1, 1, 0, 0, 0, 0, 0),
  (21, false, .iconst 1, 1, 0, 0, 0, jI 1, 0),
  (22, false, .iadd, 1, 0, 0, 0, 0, 0),
  (23, false, .putfield 32, 3, 14, 3, 0, 0, 0),
  (26, false, .iload 4, 2, 0, 0, 0, 0, 0),
  (28, false, .iastore, 1, 0, 0, 0, 0, 0),
  (29, true, .iload 4, 2, 0, 0, 0, 0, 0),
  (31, false, .iload_n 2, 1, 0, 0, 0, 0, 0),
  (32, false, .iadd, 1, 0, 0, 0, 0, 0),
  (33, false, .istore 4, 2, 0, 0, 0, 0, 0),
  (35, false, .goto (-30), 3, 4, 0, 0, 0, 0),
  (38, false, .return_, 1, 0, 0, 0, 0, 0)]
def cx_148 : mj_X := (0, [], [])
theorem tb_148 : mj_tab (mj_mt 148) cx_148 cd_148 mj_mh [(0, 0, 0), (0, 0, 0), (0, 0, 0), (0, 0, 0), (0, 0, 0), (0, 0, 0), (0, 0, 0), (0, 0, 0), (2177, 0, 0), (0, 0, 0), (0, 0, 0), (2176, 0, 0), (0, 0, 0), (0, 0, 0), (0, 0, 0), (2176, 0, 0), (0, 0, 0), (0, 0, 0), (0, 0, 0), (0, 0, 0), (0, 0, 0), (0, 0, 0), (0, 0, 0), (0, 0, 0)] = true := mj_tab_f (by decide +kernel)
theorem ct_148 (G : mj_G) {h : mj_H} (L : isLay h) {a b : Nat} (hr : isRt h a b) {mv : Int32} {ls : List Nat} (hl : isLc mv h ls) {x0 step q f : Nat} (hs : 0 < step ∧ step ≤ 268435456) (hx : x0 < 1073741824) (hq : q ≤ 268435456) (hf : q ≤ f * step) (hn : (ls ++ foL step q f (x0 % step)).length ≤ 4096) : mj_Ct G (mj_mt 148) 0 0 [.ref 73, .int (jI x0), .int (jI step), .int (jI q)] h (fun o h' => o = .returned none ∧ isLc mv h' (ls ++ foL step q f (x0 % step)) ∧ FrI [73, 76] h h') := by
  refine mj_Ct_of mj_ok tb_148 rfl rfl (Nat.le_of_ble_eq_true rfl) (fun Run hR => ?_)
  have loop : ∀ (f' x : Nat) (xI : Int32) (l : List Nat) (h' : mj_H), q ≤ x + f' * step → x < 536870912 → isLc mv h' l → l ++ foL step q f' x = ls ++ foL step q f (x0 % step) → FrI [73, 76] h h' → xI = jI x → Run 5 [some (.ref 73), some (.int (jI x0)), some (.int (jI step)), some (.int (jI q)), some (.int xI)] [] h' (0, 0) := by
    intro f'
    induction f' with
    | zero =>
      rintro x xI l h' hqx hxb hl' he F rfl
      refine hR 60 4 _ _ _ _ _ _ rfl ?_
      refine ⟨fun c => ?_, fun c => ?_⟩
      · refine ⟨rfl, ?_, F⟩
        rw [← he]
        have : foL step q 0 x = [] := rfl
        rw [this, List.append_nil]
        exact hl'
      · simp (disch := omega) only [mj_lcm, jI_lt, jI_le, jI_eq, jL_lt, jL_le, jL_eq, jI_lt0, jI_0le, jI_0lt, jI_le0, jI_eq0, jL_eq0, jI_L, jI_add, jI_sub, jI_mul, jI_neg, jL_add, jL_sub, jL_mul, jL_neg, jL_I, jI_div, jI_mod, jL_div, jL_mod] at c
        omega
    | succ f' ih =>
      rintro x xI l h' hqx hxb hl' he F rfl
      have E := F.1
      have L0 := L.fr E
      refine hR 60 4 _ _ _ _ _ _ rfl ?_
      refine ⟨fun c => ?_, fun c => ?_⟩
      · simp (disch := omega) only [mj_lcm, jI_lt, jI_le, jI_eq, jL_lt, jL_le, jL_eq, jI_lt0, jI_0le, jI_0lt, jI_le0, jI_eq0, jL_eq0, jI_L, jI_add, jI_sub, jI_mul, jI_neg, jL_add, jL_sub, jL_mul, jL_neg, jL_I, jI_div, jI_mod, jL_div, jL_mod] at c
        refine ⟨rfl, ?_, F⟩
        rw [← he]
        have : foL step q (f' + 1) x = [] := by
          show (if x < q then _ else []) = _
          rw [if_neg (by omega)]
        rw [this, List.append_nil]
        exact hl'
      · simp (disch := omega) only [mj_lcm, jI_lt, jI_le, jI_eq, jL_lt, jL_le, jL_eq, jI_lt0, jI_0le, jI_0lt, jI_le0, jI_eq0, jL_eq0, jI_L, jI_add, jI_sub, jI_mul, jI_neg, jL_add, jL_sub, jL_mul, jL_neg, jL_I, jI_div, jI_mod, jL_div, jL_mod] at c
        have hfl : foL step q (f' + 1) x = x :: foL step q f' (x + step) := by
          show (if x < q then _ else []) = _
          rw [if_pos (by omega)]
        rw [hfl] at he
        have he2 : (l ++ [x]) ++ foL step q f' (x + step) = ls ++ foL step q f (x0 % step) := by
          rw [← he, List.append_assoc]
          rfl
        have hlen : l.length < 4096 := by
          have h1 := congrArg List.length he2
          simp only [List.length_append, List.length_cons, List.length_nil] at h1 hn
          omega
        obtain ⟨l1, l2, l3, l4⟩ := hl'
        refine ⟨L0.K 73 rfl, _, (fR E _ _).trans hr.2.2.1, L0.K 73 rfl, L0.K 73 rfl, ?_⟩
        rw [l1, jI_add]
        have F1 : FrI [73, 76] h (sI h' 73 3 (jI ((l.length : Int) + 1))) := F.sI (by simp) _ _
        have L1 := L.fr F1.1
        refine ⟨L1.K 76 rfl, ?_, ?_⟩
        · rw [show hN (sI h' 73 3 (jI ((l.length : Int) + 1))) 76 = 4096 from L1.N 75 rfl]
          exact jI_in (by omega) (by omega) (by omega)
        · rw [jI_nat (by omega) (by omega), Int.toNat_natCast]
          have hmul : (f' + 1) * step = f' * step + step := by rw [Nat.add_mul, Nat.one_mul]
          have r29 : Run 29 [some (.ref 73), some (.int (jI x0)), some (.int (jI step)), some (.int (jI q)), some (.int (jI x))] [] (sI (sI h' 73 3 (jI ((l.length : Int) + 1))) 76 l.length (jI x)) (0, 0) := by
            refine hR 60 18 _ _ _ _ _ _ rfl ?_
            refine ih (x + step) _ (l ++ [x]) _ (by omega) (by omega) ⟨?_, ?_, ?_, ?_⟩ he2 (F1.sI (by simp) _ _) (jI_add _ _)
            · refine (congrFun (sI_a _ (by decide) _ _) _).trans ((sI_at _ _ _ _).trans ?_)
              simp only [List.length_append, List.length_cons, List.length_nil]
              rfl
            · simp only [List.length_append, List.length_cons, List.length_nil]
              omega
            · intro i y hy
              by_cases hi : i = l.length
              · subst hi
                rw [List.getElem?_append_right (Nat.le_refl _), Nat.sub_self] at hy
                have h9 : some x = some y := hy
                rw [← Option.some.inj h9]
                exact ⟨sI_at _ _ _ _, by omega⟩
              · have hlt := lt_of_some hy
                simp only [List.length_append, List.length_cons, List.length_nil] at hlt
                rw [List.getElem?_append_left (by omega)] at hy
                obtain ⟨b1, b2⟩ := l3 i y hy
                exact ⟨(sI_k _ _ hi _).trans ((congrFun (sI_a _ (by decide) _ _) _).trans b1), b2⟩
            · exact (congrFun (sI_a _ (by decide) _ _) _).trans ((sI_k _ _ (by decide) _).trans l4)
          exact r29
  refine hR 60 0 _ _ _ _ _ _ rfl ?_
  have em : jI (x0 : Int) % jI (step : Int) = jI ((x0 % step : Nat) : Int) := by
    rw [jI_mod (by omega) (by omega) (by omega) (by omega)]
    rfl
  have hml := Nat.mod_lt x0 hs.1
  refine ⟨?_, ?_⟩
  · simp (disch := omega) only [mj_lcm, jI_lt, jI_le, jI_eq, jL_lt, jL_le, jL_eq, jI_lt0, jI_0le, jI_0lt, jI_le0, jI_eq0, jL_eq0, jI_L, jI_add, jI_sub, jI_mul, jI_neg, jL_add, jL_sub, jL_mul, jL_neg, jL_I, jI_div, jI_mod, jL_div, jL_mod]
    omega
  · exact loop f (x0 % step) _ ls h (by omega) (by omega) hl rfl (FrI.refl _ _) em
