/-! sums and products of long numbers -/
theorem isW.lt {h : mj_H} {w : Nat} {v : Int} (a : isW h w v) : v.natAbs < 4294967296 ^ 1024 := by
  obtain ⟨a0, n, a1, a2, a3, a4, a5⟩ := a
  rw [a4]
  exact Nat.lt_of_lt_of_le (mag_lt _ n) (Nat.pow_le_pow_right (by decide) a1)
theorem isW.sg {h : mj_H} {w : Nat} {v : Int} (a : isW h w v) : hI h w 2 = jI v.sign := by
  obtain ⟨a0, n, a1, a2, a3, a4, a5⟩ := a
  exact a3
/-- FormHouse$Reckoner.sum(LFormHouse$Whole;LFormHouse$Whole;LFormHouse$Whole;I)V; cuts at [16, 64] -/
def cl_41_1 : List mj_E := (47, false, .aload_n 3, 1, 0, 0, 0, 0, 0) ::
  (48, false, .invokevirtual 56, 3, 47, 2, 2, 0, 0) ::
  (51, false, .goto 13, 3, 33, 0, 0, 0, 0) ::
  (54, false, .aload_n 0, 1, 0, 0, 0, 0, 0) ::
  (55, false, .aload_n 3, 1, 0, 0, 0, 0, 0) ::
  (56, false, .aload_n 2, 1, 0, 0, 0, 0, 0) ::
  (57, false, .invokevirtual 56, 3, 47, 2, 2, 0, 0) ::
  (60, false, .iload 4, 2, 0, 0, 0, 0, 0) ::
  (62, false, .istore 5, 2, 0, 0, 0, 0, 0) ::
  (64, true, .aload_n 0, 1, 0, 0, 0, 0, 0) ::
  (65, false, .aload_n 1, 1, 0, 0, 0, 0, 0) ::
  (66, false, .iload 5, 2, 0, 0, 0, 0, 0) ::
  (68, false, .invokevirtual 59, 3, 33, 2, 2, 0, 0) ::
  (71, false, .return_, 1, 0, 0, 0, 0, 0) ::
  []
def cl_41_0 : List mj_E := (0, false, .aload_n 2, 1, 0, 0, 0, 0, 0) ::
  (1, false, .getfield 45, 3, 5, 2, 0, 0, 0) ::
  (4, false, .ifCond .ne 8, 3, 5, 0, 0, 0, 0) ::
  (7, false, .iload 4, 2, 0, 0, 0, 0, 0) ::
  (9, false, .goto 7, 3, 7, 0, 0, 0, 0) ::
  (12, false, .aload_n 2, 1, 0, 0, 0, 0, 0) ::
  (13, false, .getfield 45, 3, 5, 2, 0, 0, 0) ::
  (16, true, .istore 5, 2, 0, 0, 0, 0, 0) ::
  (18, false, .aload_n 2, 1, 0, 0, 0, 0, 0) ::
  (19, false, .getfield 45, 3, 5, 2, 0, 0, 0) ::
  (22, false, .iload 4, 2, 0, 0, 0, 0, 0) ::
  (24, false, .imul, 1, 0, 0, 0, 0, 0) ::
  (25, false, .ifCond .lt 12, 3, 18, 0, 0, 0, 0) ::
  (28, false, .aload_n 0, 1, 0, 0, 0, 0, 0) ::
  (29, false, .aload_n 2, 1, 0, 0, 0, 0, 0) ::
  (30, false, .aload_n 3, 1, 0, 0, 0, 0, 0) ::
  (31, false, .invokevirtual 48, 3, 42, 2, 2, 0, 0) ::
  (34, false, .goto 30, 3, 33, 0, 0, 0, 0) ::
  (37, false, .aload_n 2, 1, 0, 0, 0, 0, 0) ::
  (38, false, .aload_n 3, 1, 0, 0, 0, 0, 0) ::
  (39, false, .invokevirtual 52, 3, 44, 1, 5, 0, 0) ::
  (42, false, .ifCond .lt 12, 3, 27, 0, 0, 0, 0) ::
  (45, false, .aload_n 0, 1, 0, 0, 0, 0, 0) ::
  (46, false, .aload_n 2, 1, 0, 0, 0, 0, 0) ::
  cl_41_1
def cd_41 : List mj_E := cl_41_0
def cx_41 : mj_X := (0, [], [])
theorem tb_41 : mj_tab (mj_mt 41) cx_41 cd_41 mj_mh [(0, 0, 0), (1110, 0, 0), (0, 0, 0), (0, 0, 0), (0, 0, 0), (0, 0, 0), (1110, 0, 0), (0, 0, 0), (0, 0, 0), (1110, 0, 0), (0, 0, 0), (0, 0, 0), (0, 0, 0), (0, 0, 0), (0, 0, 0), (0, 0, 0), (3197, 0, 0), (0, 0, 0), (0, 0, 0), (0, 0, 0), (3204, 0, 0), (0, 0, 0), (0, 0, 0), (0, 0, 0), (0, 0, 0), (3215, 0, 0), (0, 0, 0), (0, 0, 0), (0, 0, 0), (0, 0, 0), (3215, 0, 0), (0, 0, 0), (0, 0, 0), (0, 0, 0), (0, 0, 0), (0, 0, 0), (3115, 0, 0), (0, 0, 0)] = true := mj_tab_f (by decide +kernel)
theorem ct_41 (G : mj_G) {h : mj_H} {t a b : Nat} {va vb s : Int} (hk : isRk h) (ht : isW0 h t) (ha : isW h a va) (hb : isW h b vb) (hs : s = vb.sign ∨ s = -vb.sign) (hlt : va.natAbs + vb.natAbs < 4294967296 ^ 1024) : mj_Ct G (mj_mt 41) 0 0 [.ref 3, .ref t, .ref a, .ref b, .int (jI s)] h (fun o h' => o = .returned none ∧ isW h' t (va + s * vb.natAbs) ∧ FrI [3, 4, t, t + 1] h h') := by
  have hs3 : s = 0 ∨ s = 1 ∨ s = -1 := by
    have := Int.sign_trichotomy vb
    rcases this with z | z | z <;> rw [z] at hs <;> omega
  have hs0 : s = 0 ↔ vb = 0 := by
    rw [← Int.sign_eq_zero_iff_zero (a := vb)]
    omega
  have ht4 := ht.2.2.2.2
  have sga := ha.sg
  refine mj_Ct_of mj_ok tb_41 rfl rfl (Nat.le_of_ble_eq_true rfl) (fun Run hR => ?_)
  have r64 : ∀ (g n : Nat) (sI5 : Int32) (q : Int) (h' : mj_H), FrI [3, 4] h h' → n ≤ 1025 → hI h' 3 1 = jI n → mag (h'.1 4) n = g → g < 4294967296 ^ 1024 → (q = 1 ∨ q = -1 ∨ g = 0) → q * g = va + s * vb.natAbs → sI5 = jI q → Run 64 [some (.ref 3), some (.ref t), some (.ref a), some (.ref b), some (.int (jI s)), some (.int sI5)] [] h' (0, 0) := by
    rintro g n sI5 q h' hf hn hl hm hg hq hv rfl
    have k' := hk.fr hf.1
    have t' := ht.fr hf.1
    refine hR 20 33 _ _ _ _ _ _ rfl ?_
    refine ⟨k'.1, jcallP (ct_33 G k' t' (n := n) (by omega) hl (by rw [hm]; exact hg) (s := q) (by rw [hm]; exact hq)) ?_⟩
    rintro o h2 ⟨rfl, q1, q2⟩
    refine ⟨rfl, ?_, ?_⟩
    · rw [hm, hv] at q1
      exact q1
    · exact (hf.trans q2).mono (by simp)
  have r16 : ∀ (q : Int) (qI : Int32), (q = if va = 0 then s else va.sign) → qI = jI q → Run 16 [some (.ref 3), some (.ref t), some (.ref a), some (.ref b), some (.int (jI s)), none] [.int qI] h (0, 0) := by
    rintro q qI hq rfl
    refine hR 40 7 _ _ _ _ _ _ rfl ?_
    refine ⟨ha.1.1, ?_⟩
    rw [sga]
    have hmul : -1 ≤ va.sign * s ∧ va.sign * s ≤ 1 := by
      rcases Int.sign_trichotomy va with z | z | z <;> rw [z] <;> omega
    have hvs : (va : Int) = va.sign * va.natAbs := (Int.sign_mul_natAbs va).symm
    refine ⟨fun c => ?_, fun c => ?_⟩
    · rw [jI_mul] at c
      simp (disch := omega) only [mj_lcm, jI_lt, jI_le, jI_eq, jL_lt, jL_le, jL_eq, jI_lt0, jI_0le, jI_0lt, jI_le0, jI_eq0, jL_eq0, jI_L, jI_add, jI_sub, jI_mul, jI_neg, jL_add, jL_sub, jL_mul, jL_neg, jL_I, jI_div, jI_mod, jL_div, jL_mod] at c
      -- unlike signs
      have hva0 : va ≠ 0 := by
        intro z
        rw [z] at c
        simp at c
      have hsg : va.sign = -s := by
        rcases Int.sign_trichotomy va with z | z | z
        · rw [z] at c ⊢
          omega
        · exact absurd (Int.sign_eq_zero_iff_zero.mp z) hva0
        · rw [z] at c ⊢
          omega
      rw [if_neg hva0] at hq
      refine ⟨ha.1.1, jcall (ct_44 G ha hb) ?_⟩
      by_cases g : va.natAbs < vb.natAbs
      · rw [if_pos g]
        refine ⟨fun c2 => ?_, fun c2 => absurd (by decide) c2⟩
        refine ⟨hk.1, jcallP (ct_47 G hk hb ha (by omega)) ?_⟩
        rintro o h2 ⟨rfl, ⟨n, n1, n2, n3⟩, q2⟩
        refine r64 _ n _ s h2 q2 n1 n2 n3 (by omega) (by omega) ?_ rfl
        rw [Int.natCast_sub (by omega), Int.mul_sub]
        have e1 : va = -(s * va.natAbs) := by
          rw [← Int.neg_mul, ← hsg]
          exact hvs
        omega
      · rw [if_neg g]
        have hc2 : 0 ≤ jI (if va.natAbs = vb.natAbs then 0 else 1) := by
          split <;> decide
        refine ⟨fun c2 => absurd hc2 (by
          intro z
          exact absurd c2 (Int32.not_lt.mpr z)), fun c2 => ?_⟩
        refine ⟨hk.1, jcallP (ct_47 G hk ha hb (by omega)) ?_⟩
        rintro o h2 ⟨rfl, ⟨n, n1, n2, n3⟩, q2⟩
        refine r64 _ n _ q h2 q2 n1 n2 n3 (by omega) ?_ ?_ rfl
        · rw [hq]
          rcases Int.sign_trichotomy va with y | y | y
          · exact Or.inl y
          · exact absurd (Int.sign_eq_zero_iff_zero.mp y) hva0
          · exact Or.inr (Or.inl y)
        · rw [Int.natCast_sub (by omega), Int.mul_sub, hq, ← hvs, hsg, Int.neg_mul]
          omega
    · rw [jI_mul] at c
      simp (disch := omega) only [mj_lcm, jI_lt, jI_le, jI_eq, jL_lt, jL_le, jL_eq, jI_lt0, jI_0le, jI_0lt, jI_le0, jI_eq0, jL_eq0, jI_L, jI_add, jI_sub, jI_mul, jI_neg, jL_add, jL_sub, jL_mul, jL_neg, jL_I, jI_div, jI_mod, jL_div, jL_mod] at c
      refine ⟨hk.1, jcallP (ct_42 G hk ha hb) ?_⟩
      rintro o h2 ⟨rfl, ⟨n, n1, n2, n3⟩, q2⟩
      refine r64 _ n _ q h2 q2 n1 n2 n3 hlt ?_ ?_ rfl
      · rw [hq]
        by_cases z : va = 0
        · rw [if_pos z]
          rcases hs3 with y | y | y
          · right; right
            have := hs0.mp y
            subst z this
            rfl
          · exact Or.inl y
          · exact Or.inr (Or.inl y)
        · rw [if_neg z]
          rcases Int.sign_trichotomy va with y | y | y
          · exact Or.inl y
          · exact absurd (Int.sign_eq_zero_iff_zero.mp y) z
          · exact Or.inr (Or.inl y)
      · rw [hq, Int.natCast_add, Int.mul_add]
        by_cases z : va = 0
        · rw [if_pos z, z]
          simp
        · rw [if_neg z, ← hvs]
          congr 1
          have hsv : va.sign = s ∨ s = 0 := by
            rcases Int.sign_trichotomy va with y | y | y
            · rw [y] at c ⊢
              omega
            · exact absurd (Int.sign_eq_zero_iff_zero.mp y) z
            · rw [y] at c ⊢
              omega
          rcases hsv with y | y
          · rw [y]
          · have := hs0.mp y
            subst this
            simp
  refine hR 40 0 _ _ _ _ _ _ rfl ?_
  refine ⟨ha.1.1, ?_⟩
  rw [sga]
  have hsr : -1 ≤ va.sign ∧ va.sign ≤ 1 := by
    rcases Int.sign_trichotomy va with z | z | z <;> rw [z] <;> decide
  refine ⟨fun c => ?_, fun c => ⟨ha.1.1, ?_⟩⟩
  · simp (disch := omega) only [mj_lcm, jI_lt, jI_le, jI_eq, jL_lt, jL_le, jL_eq, jI_lt0, jI_0le, jI_0lt, jI_le0, jI_eq0, jL_eq0, jI_L, jI_add, jI_sub, jI_mul, jI_neg, jL_add, jL_sub, jL_mul, jL_neg, jL_I, jI_div, jI_mod, jL_div, jL_mod] at c
    exact r16 s _ (by rw [if_pos (Int.sign_eq_zero_iff_zero.mp c)]) rfl
  · simp (disch := omega) only [mj_lcm, jI_lt, jI_le, jI_eq, jL_lt, jL_le, jL_eq, jI_lt0, jI_0le, jI_0lt, jI_le0, jI_eq0, jL_eq0, jI_L, jI_add, jI_sub, jI_mul, jI_neg, jL_add, jL_sub, jL_mul, jL_neg, jL_I, jI_div, jI_mod, jL_div, jL_mod] at c
    exact r16 va.sign _ (by rw [if_neg (fun z => c (Int.sign_eq_zero_iff_zero.mpr z))]) sga
/-- FormHouse$Reckoner.plus(LFormHouse$Whole;LFormHouse$Whole;LFormHouse$Whole;)V; cuts at [] -/
def cd_49 : List mj_E := [(0, false, .aload_n 0, 1, 0, 0, 0, 0, 0),
  (1, false, .aload_n 1, 1, 0, 0, 0, 0, 0),
  (2, false, .aload_n 2, 1, 0, 0, 0, 0, 0),
  (3, false, .aload_n 3, 1, 0, 0, 0, 0, 0),
  (4, false, .aload_n 3, 1, 0, 0, 0, 0, 0),
  (5, false, .getfield 45, 3, 5, 2, 0, 0, 0),
  (8, false, .invokevirtual 63, 3, 41, 4, 2, 0, 0),
  (11, false, .return_, 1, 0, 0, 0, 0, 0)]
def cx_49 : mj_X := (0, [], [])
theorem tb_49 : mj_tab (mj_mt 49) cx_49 cd_49 mj_mh [(0, 0, 0), (0, 0, 0), (0, 0, 0), (0, 0, 0), (0, 0, 0), (1110, 0, 0), (3193, 0, 0), (0, 0, 0)] = true := mj_tab_f (by decide +kernel)
theorem ct_49 (G : mj_G) {h : mj_H} {t a b : Nat} {va vb : Int} (hk : isRk h) (ht : isW0 h t) (ha : isW h a va) (hb : isW h b vb) (hlt : va.natAbs + vb.natAbs < 4294967296 ^ 1024) : mj_Ct G (mj_mt 49) 0 0 [.ref 3, .ref t, .ref a, .ref b] h (fun o h' => o = .returned none ∧ isW h' t (va + vb) ∧ FrI [3, 4, t, t + 1] h h') := by
  refine mj_Ct_of mj_ok tb_49 rfl rfl (Nat.le_of_ble_eq_true rfl) (fun Run hR => ?_)
  refine hR 20 0 _ _ _ _ _ _ rfl ?_
  refine ⟨hb.1.1, ?_⟩
  rw [hb.sg]
  refine ⟨hk.1, jcallP (ct_41 G hk ht ha hb (s := vb.sign) (Or.inl rfl) hlt) ?_⟩
  rintro o h2 ⟨rfl, q1, q2⟩
  refine ⟨rfl, ?_, q2⟩
  rw [Int.sign_mul_natAbs] at q1
  exact q1
/-- FormHouse$Reckoner.minus(LFormHouse$Whole;LFormHouse$Whole;LFormHouse$Whole;)V; cuts at [] -/
def cd_40 : List mj_E := [(0, false, .aload_n 0, 1, 0, 0, 0, 0, 0),
  (1, false, .aload_n 1, 1, 0, 0, 0, 0, 0),
  (2, false, .aload_n 2, 1, 0, 0, 0, 0, 0),
  (3, false, .aload_n 3, 1, 0, 0, 0, 0, 0),
  (4, false, .aload_n 3, 1, 0, 0, 0, 0, 0),
  (5, false, .getfield 45, 3, 5, 2, 0, 0, 0),
  (8, false, .ineg, 1, 0, 0, 0, 0, 0),
  (9, false, .invokevirtual 63, 3, 41, 4, 2, 0, 0),
  (12, false, .return_, 1, 0, 0, 0, 0, 0)]
def cx_40 : mj_X := (0, [], [])
theorem tb_40 : mj_tab (mj_mt 40) cx_40 cd_40 mj_mh [(0, 0, 0), (0, 0, 0), (0, 0, 0), (0, 0, 0), (0, 0, 0), (1110, 0, 0), (0, 0, 0), (3193, 0, 0), (0, 0, 0)] = true := mj_tab_f (by decide +kernel)
theorem ct_40 (G : mj_G) {h : mj_H} {t a b : Nat} {va vb : Int} (hk : isRk h) (ht : isW0 h t) (ha : isW h a va) (hb : isW h b vb) (hlt : va.natAbs + vb.natAbs < 4294967296 ^ 1024) : mj_Ct G (mj_mt 40) 0 0 [.ref 3, .ref t, .ref a, .ref b] h (fun o h' => o = .returned none ∧ isW h' t (va - vb) ∧ FrI [3, 4, t, t + 1] h h') := by
  refine mj_Ct_of mj_ok tb_40 rfl rfl (Nat.le_of_ble_eq_true rfl) (fun Run hR => ?_)
  refine hR 20 0 _ _ _ _ _ _ rfl ?_
  refine ⟨hb.1.1, ?_⟩
  rw [hb.sg]
  have c41 := ct_41 G hk ht ha hb (s := -vb.sign) (Or.inr rfl) hlt
  rw [← jI_neg] at c41
  refine ⟨hk.1, jcallP c41 ?_⟩
  rintro o h2 ⟨rfl, q1, q2⟩
  refine ⟨rfl, ?_, q2⟩
  rw [Int.neg_mul, Int.sign_mul_natAbs] at q1
  exact q1
/-- FormHouse$Reckoner.times(LFormHouse$Whole;LFormHouse$Whole;LFormHouse$Whole;)V; cuts at [16, 42, 57, 147] -/
def cl_31_3 : List mj_E := (133, false, .getfield 34, 3, 5, 1, 0, 0, 0) ::
  (136, false, .iadd, 1, 0, 0, 0, 0, 0) ::
  (137, false, .lload 5, 2, 0, 0, 0, 0, 0) ::
  (139, false, .l2i, 1, 0, 0, 0, 0, 0) ::
  (140, false, .iastore, 1, 0, 0, 0, 0, 0) ::
  (141, false, .iinc 4 1, 3, 0, 0, 0, jI 1, 0) ::
  (144, false, .goto (-102), 3, 22, 0, 0, 0, 0) ::
  (147, true, .aload_n 0, 1, 0, 0, 0, 0, 0) ::
  (148, false, .aload_n 1, 1, 0, 0, 0, 0, 0) ::
  (149, false, .aload_n 2, 1, 0, 0, 0, 0, 0) ::
  (150, false, .getfield 45, 3, 5, 2, 0, 0, 0) ::
  (153, false, .aload_n 3, 1, 0, 0, 0, 0, 0) ::
  (154, false, .getfield 45, 3, 5, 2, 0, 0, 0) ::
  (157, false, .imul, 1, 0, 0, 0, 0, 0) ::
  (158, false, .invokevirtual 59, 3, 33, 2, 2, 0, 0) ::
  (161, false, .return_, 1, 0, 0, 0, 0, 0) ::
  []
def cl_31_2 : List mj_E := (91, false, .i2l, 1, 0, 0, 0, 0, 0) ::
  (92, false, .ldc2_w 67, 3, 0, 0, 0, 0, jL 4294967295) ::
  (95, false, .land, 1, 0, 0, 0, 0, 0) ::
  (96, false, .ladd, 1, 0, 0, 0, 0, 0) ::
  (97, false, .ladd, 1, 0, 0, 0, 0, 0) ::
  (98, false, .lstore 5, 2, 0, 0, 0, 0, 0) ::
  (100, false, .aload_n 0, 1, 0, 0, 0, 0, 0) ::
  (101, false, .getfield 9, 3, 2, 0, 2, 0, 0) ::
  (104, false, .iload 4, 2, 0, 0, 0, 0, 0) ::
  (106, false, .iload 7, 2, 0, 0, 0, 0, 0) ::
  (108, false, .iadd, 1, 0, 0, 0, 0, 0) ::
  (109, false, .lload 5, 2, 0, 0, 0, 0, 0) ::
  (111, false, .l2i, 1, 0, 0, 0, 0, 0) ::
  (112, false, .iastore, 1, 0, 0, 0, 0, 0) ::
  (113, false, .lload 5, 2, 0, 0, 0, 0, 0) ::
  (115, false, .bipush 32, 2, 0, 0, 0, jI 32, 0) ::
  (117, false, .lushr, 1, 0, 0, 0, 0, 0) ::
  (118, false, .lstore 5, 2, 0, 0, 0, 0, 0) ::
  (120, false, .iinc 7 1, 3, 0, 0, 0, jI 1, 0) ::
  (123, false, .goto (-66), 3, 30, 0, 0, 0, 0) ::
  (126, false, .aload_n 0, 1, 0, 0, 0, 0, 0) ::
  (127, false, .getfield 9, 3, 2, 0, 2, 0, 0) ::
  (130, false, .iload 4, 2, 0, 0, 0, 0, 0) ::
  (132, false, .aload_n 3, 1, 0, 0, 0, 0, 0) ::
  cl_31_3
def cl_31_1 : List mj_E := (45, false, .getfield 34, 3, 5, 1, 0, 0, 0) ::
  (48, false, .if_icmp .ge 99, 3, 79, 0, 0, 0, 0) ::
  (51, false, .lconst 0, 1, 0, 0, 0, 0, jL 0) ::
  (52, false, .lstore 5, 2, 0, 0, 0, 0, 0) ::
  (54, false, .iconst 0, 1, 0, 0, 0, jI 0, 0) ::
  (55, false, .istore 7, 2, 0, 0, 0, 0, 0) ::
  (57, true, .iload 7, 2, 0, 0, 0, 0, 0) ::
  (59, false, .aload_n 3, 1, 0, 0, 0, 0, 0) ::
  (60, false, .getfield 34, 3, 5, 1, 0, 0, 0) ::
  (63, false, .if_icmp .ge 63, 3, 68, 0, 0, 0, 0) ::
  (66, false, .lload 5, 2, 0, 0, 0, 0, 0) ::
  (68, false, .aload_n 2, 1, 0, 0, 0, 0, 0) ::
  (69, false, .iload 4, 2, 0, 0, 0, 0, 0) ::
  (71, false, .invokevirtual 41, 3, 32, 1, 5, 0, 0) ::
  (74, false, .aload_n 3, 1, 0, 0, 0, 0, 0) ::
  (75, false, .iload 7, 2, 0, 0, 0, 0, 0) ::
  (77, false, .invokevirtual 41, 3, 32, 1, 5, 0, 0) ::
  (80, false, .lmul, 1, 0, 0, 0, 0, 0) ::
  (81, false, .aload_n 0, 1, 0, 0, 0, 0, 0) ::
  (82, false, .getfield 9, 3, 2, 0, 2, 0, 0) ::
  (85, false, .iload 4, 2, 0, 0, 0, 0, 0) ::
  (87, false, .iload 7, 2, 0, 0, 0, 0, 0) ::
  (89, false, .iadd, 1, 0, 0, 0, 0, 0) ::
  (90, false, .iaload, 1, 0, 0, 0, 0, 0) ::
  cl_31_2
def cl_31_0 : List mj_E := (0, false, .aload_n 0, 1, 0, 0, 0, 0, 0) ::
  (1, false, .aload_n 2, 1, 0, 0, 0, 0, 0) ::
  (2, false, .getfield 34, 3, 5, 1, 0, 0, 0) ::
  (5, false, .aload_n 3, 1, 0, 0, 0, 0, 0) ::
  (6, false, .getfield 34, 3, 5, 1, 0, 0, 0) ::
  (9, false, .iadd, 1, 0, 0, 0, 0, 0) ::
  (10, false, .putfield 21, 3, 2, 1, 0, 0, 0) ::
  (13, false, .iconst 0, 1, 0, 0, 0, jI 0, 0) ::
  (14, false, .istore 4, 2, 0, 0, 0, 0, 0) ::
  (16, true, .iload 4, 2, 0, 0, 0, 0, 0) ::
  (18, false, .aload_n 0, 1, 0, 0, 0, 0, 0) ::
  (19, false, .getfield 21, 3, 2, 1, 0, 0, 0) ::
  (22, false, .if_icmp .ge 17, 3, 20, 0, 0, 0, 0) ::
  (25, false, .aload_n 0, 1, 0, 0, 0, 0, 0) ::
  (26, false, .getfield 9, 3, 2, 0, 2, 0, 0) ::
  (29, false, .iload 4, 2, 0, 0, 0, 0, 0) ::
  (31, false, .iconst 0, 1, 0, 0, 0, jI 0, 0) ::
  (32, false, .iastore, 1, 0, 0, 0, 0, 0) ::
  (33, false, .iinc 4 1, 3, 0, 0, 0, jI 1, 0) ::
  (36, false, .goto (-20), 3, 9, 0, 0, 0, 0) ::
  (39, false, .iconst 0, 1, 0, 0, 0, jI 0, 0) ::
  (40, false, .istore 4, 2, 0, 0, 0, 0, 0) ::
  (42, true, .iload 4, 2, 0, 0, 0, 0, 0) ::
  (44, false, .aload_n 2, 1, 0, 0, 0, 0, 0) ::
  cl_31_1
def cd_31 : List mj_E := cl_31_0
def cx_31 : mj_X := (0, [], [])
theorem tb_31 : mj_tab (mj_mt 31) cx_31 cd_31 mj_mh [(0, 0, 0), (0, 0, 0), (1103, 0, 0), (0, 0, 0), (1103, 0, 0), (0, 0, 0), (1051, 0, 0), (0, 0, 0), (0, 0, 0), (0, 0, 0), (0, 0, 0), (1051, 0, 0), (0, 0, 0), (0, 0, 0), (1050, 0, 0), (0, 0, 0), (0, 0, 0), (0, 0, 0), (0, 0, 0), (0, 0, 0), (0, 0, 0), (0, 0, 0), (0, 0, 0), (0, 0, 0), (1103, 0, 0), (0, 0, 0), (0, 0, 0), (0, 0, 0), (0, 0, 0), (0, 0, 0), (0, 0, 0), (0, 0, 0), (1103, 0, 0), (0, 0, 0), (0, 0, 0), (0, 0, 0), (0, 0, 0), (3109, 0, 0), (0, 0, 0), (0, 0, 0), (3109, 0, 0), (0, 0, 0), (0, 0, 0), (1050, 0, 0), (0, 0, 0), (0, 0, 0), (0, 0, 0), (0, 0, 0), (0, 0, 0), (3114, 0, 0), (0, 0, 0), (0, 0, 0), (0, 0, 0), (0, 0, 0), (0, 0, 0), (1050, 0, 0), (0, 0, 0), (0, 0, 0), (0, 0, 0), (0, 0, 0), (0, 0, 0), (0, 0, 0), (0, 0, 0), (0, 0, 0), (0, 0, 0), (0, 0, 0), (0, 0, 0), (0, 0, 0), (0, 0, 0), (1050, 0, 0), (0, 0, 0), (0, 0, 0), (1103, 0, 0), (0, 0, 0), (0, 0, 0), (0, 0, 0), (0, 0, 0), (0, 0, 0), (0, 0, 0), (0, 0, 0), (0, 0, 0), (0, 0, 0), (1110, 0, 0), (0, 0, 0), (1110, 0, 0), (0, 0, 0), (3115, 0, 0), (0, 0, 0)] = true := mj_tab_f (by decide +kernel)
theorem ct_31 (G : mj_G) {h : mj_H} {t a b : Nat} {va vb : Int} (hk : isRk h) (ht : isW0 h t) (ha : isW h a va) (hb : isW h b vb) (hlt : va.natAbs * vb.natAbs < 4294967296 ^ 1024) : mj_Ct G (mj_mt 31) 0 0 [.ref 3, .ref t, .ref a, .ref b] h (fun o h' => o = .returned none ∧ isW h' t (va * vb) ∧ FrI [3, 4, t, t + 1] h h') := by
  have sga := ha.sg
  have sgb := hb.sg
  obtain ⟨a0, na, a1, a2, a3, a4, a5⟩ := ha
  obtain ⟨b0, nb, b1, b2, b3, b4, b5⟩ := hb
  have ga := a0.2.2.2.2
  have gb' := b0.2.2.2.2
  have ht4 := ht.2.2.2.2
  refine mj_Ct_of mj_ok tb_31 rfl rfl (Nat.le_of_ble_eq_true rfl) (fun Run hR => ?_)
  have r147 : ∀ (h' : mj_H) (x4 x5 x6 x7 : Option Value), FrI [3, 4] h h' → hI h' 3 1 = jI (na + nb : Nat) → mag (h'.1 4) (na + nb) = va.natAbs * vb.natAbs → Run 147 [some (.ref 3), some (.ref t), some (.ref a), some (.ref b), x4, x5, x6, x7] [] h' (0, 0) := by
    intro h' x4 x5 x6 x7 hf hl hm
    have k' := hk.fr hf.1
    have t' := ht.fr hf.1
    refine hR 20 79 _ _ _ _ _ _ rfl ?_
    refine ⟨(a0.fr hf.1).1, (b0.fr hf.1).1, ?_⟩
    have ea : hI h' a 2 = jI va.sign := by
      show h'.1 a 2 = _
      rw [hf.2 a (by simp; omega)]; exact sga
    have eb : hI h' b 2 = jI vb.sign := by
      show h'.1 b 2 = _
      rw [hf.2 b (by simp; omega)]; exact sgb
    rw [ea, eb]
    have hsg : va.sign * vb.sign = 1 ∨ va.sign * vb.sign = -1 ∨ mag (h'.1 4) (na + nb) = 0 := by
      rw [hm]
      rcases Int.sign_trichotomy va with z | z | z
      · rcases Int.sign_trichotomy vb with y | y | y
        · rw [z, y]; exact Or.inl rfl
        · rw [Int.sign_eq_zero_iff_zero.mp y]; exact Or.inr (Or.inr rfl)
        · rw [z, y]; exact Or.inr (Or.inl rfl)
      · rw [Int.sign_eq_zero_iff_zero.mp z]
        right; right
        exact Nat.zero_mul _
      · rcases Int.sign_trichotomy vb with y | y | y
        · rw [z, y]; exact Or.inr (Or.inl rfl)
        · rw [Int.sign_eq_zero_iff_zero.mp y]; exact Or.inr (Or.inr rfl)
        · rw [z, y]; exact Or.inl rfl
    have c33 := ct_33 G k' t' (n := na + nb) (by omega) hl (by rw [hm]; exact hlt) (s := va.sign * vb.sign) hsg
    rw [← jI_mul] at c33
    refine ⟨k'.1, jcallP c33 ?_⟩
    rintro o h2 ⟨rfl, q1, q2⟩
    refine ⟨rfl, ?_, (hf.trans q2).mono (by simp)⟩
    have e1 : va.sign * vb.sign * ((va.natAbs * vb.natAbs : Nat) : Int) = va * vb := by
      rw [Int.natCast_mul]
      have h1 := Int.sign_mul_natAbs va
      have h2 := Int.sign_mul_natAbs vb
      generalize va.sign = p1 at h1
      generalize vb.sign = p2 at h2
      rw [← h1, ← h2]
      grind
    rw [hm, e1] at q1
    exact q1
  have outer : ∀ (j i : Nat) (iI : Int32) (h' : mj_H) (x5 x6 x7 : Option Value), i + j = na → FrI [3, 4] h h' → hI h' 3 1 = jI (na + nb : Nat) → mag (h'.1 4) (i + nb) = pm (h.1 (a + 1)) na i * vb.natAbs → iI = jI i → Run 42 [some (.ref 3), some (.ref t), some (.ref a), some (.ref b), some (.int iI), x5, x6, x7] [] h' (0, 0) := by
    intro j
    induction j with
    | zero =>
      rintro i iI h' x5 x6 x7 hij hf hl hm rfl
      have hi : i = na := by omega
      subst hi
      refine hR 60 22 _ _ _ _ _ _ rfl ?_
      refine ⟨(a0.fr hf.1).1, ?_⟩
      have la : hI h' a 1 = jI i := by
        show h'.1 a 1 = _
        rw [hf.2 a (by simp; omega)]; exact a2
      rw [la]
      refine ⟨fun c => ?_, fun c => absurd (by simp (disch := omega) only [mj_lcm, jI_lt, jI_le, jI_eq, jL_lt, jL_le, jL_eq, jI_lt0, jI_0le, jI_0lt, jI_le0, jI_eq0, jL_eq0, jI_L, jI_add, jI_sub, jI_mul, jI_neg, jL_add, jL_sub, jL_mul, jL_neg, jL_I, jI_div, jI_mod, jL_div, jL_mod]; omega) c⟩
      rw [pm_e _ (Nat.le_refl _), ← a4] at hm
      exact r147 h' _ _ _ _ hf hl hm
    | succ j ih =>
      rintro i iI h0 x5 x6 x7 hij hf hl hm rfl
      have inner : ∀ (q p cr : Nat) (pI : Int32) (cL : Int64) (h' : mj_H), p + q = nb → FrI [3, 4] h h' → hI h' 3 1 = jI (na + nb : Nat) → cr < 4294967296 → (∀ z, i + p ≤ z → h'.1 4 z = h0.1 4 z) → mag (h'.1 4) (i + p) + cr * 4294967296 ^ (i + p) = mag (h0.1 4) (i + p) + wd (h.1 (a + 1) i) * pm (h.1 (b + 1)) nb p * 4294967296 ^ i → pI = jI p → cL = jL cr → Run 57 [some (.ref 3), some (.ref t), some (.ref a), some (.ref b), some (.int (jI i)), some (.long cL), none, some (.int pI)] [] h' (0, 0) := by
        intro q
        induction q with
        | zero =>
          rintro p cr pI cL h' hpq hf hl hcr hz hm2 rfl rfl
          have k' := hk.fr hf.1
          have b0' := b0.fr hf.1
          have hp : p = nb := by omega
          subst hp
          have lb : hI h' b 1 = jI p := by
            show h'.1 b 1 = _
            rw [hf.2 b (by simp; omega)]; exact b2
          refine hR 60 30 _ _ _ _ _ _ rfl ?_
          refine ⟨b0'.1, ?_⟩
          rw [lb]
          refine ⟨fun c => ?_, fun c => absurd (by simp (disch := omega) only [mj_lcm, jI_lt, jI_le, jI_eq, jL_lt, jL_le, jL_eq, jI_lt0, jI_0le, jI_0lt, jI_le0, jI_eq0, jL_eq0, jI_L, jI_add, jI_sub, jI_mul, jI_neg, jL_add, jL_sub, jL_mul, jL_neg, jL_I, jI_div, jI_mod, jL_div, jL_mod]; omega) c⟩
          refine ⟨k'.1, _, k'.2.1, b0'.1, ?_⟩
          rw [lb]
          refine ⟨k'.2.2.1, ?_, ?_⟩
          · rw [jI_add, k'.2.2.2.1]
            exact jI_in (by omega) (by omega) (by omega)
          · rw [jI_add, jL_I, jI_nat (by omega) (by omega), show ((i : Int) + p).toNat = i + p by omega]
            refine ih (i + 1) _ _ _ _ _ (by omega) (hf.sI (by simp) _ _) ?_ ?_ (jI_add _ _)
            · exact (congrFun (sI_a h' (by decide) _ _) 1).trans hl
            · rw [show i + 1 + p = (i + p) + 1 by omega, mag_put (sI_row h' 4 (i + p) _).1 (sI_row h' 4 (i + p) _).2, wd_jI, show ((cr : Int) % 4294967296).toNat = cr by omega, hm2, hm, pm_s, if_pos (by omega), pm_e _ (Nat.le_refl _), ← b4]
              grind
        | succ q ihq =>
          rintro p cr pI cL h' hpq hf hl hcr hz hm2 rfl rfl
          have k' := hk.fr hf.1
          have a0' := a0.fr hf.1
          have b0' := b0.fr hf.1
          have lb : hI h' b 1 = jI nb := by
            show h'.1 b 1 = _
            rw [hf.2 b (by simp; omega)]; exact b2
          have wa : hI h' (a + 1) i = h.1 (a + 1) i := by
            show h'.1 (a + 1) i = _
            rw [hf.2 (a + 1) (by simp; omega)]
          have wb : hI h' (b + 1) p = h.1 (b + 1) p := by
            show h'.1 (b + 1) p = _
            rw [hf.2 (b + 1) (by simp; omega)]
          refine hR 60 30 _ _ _ _ _ _ rfl ?_
          refine ⟨b0'.1, ?_⟩
          rw [lb]
          refine ⟨fun c => ?_, fun c => ?_⟩
          · simp (disch := omega) only [mj_lcm, jI_lt, jI_le, jI_eq, jL_lt, jL_le, jL_eq, jI_lt0, jI_0le, jI_0lt, jI_le0, jI_eq0, jL_eq0, jI_L, jI_add, jI_sub, jI_mul, jI_neg, jL_add, jL_sub, jL_mul, jL_neg, jL_I, jI_div, jI_mod, jL_div, jL_mod] at c
            omega
          · refine ⟨a0'.1, jcall (ct_32 G a0' (by omega) (by omega)) ⟨b0'.1, jcall (ct_32 G b0' (by omega) (by omega)) ?_⟩⟩
            rw [show Int.toNat (i : Nat) = i from rfl, show Int.toNat (p : Nat) = p from rfl, wa, wb]
            have hin : vp_in (jI i + jI p) (hN h' 4) := by
              rw [jI_add, k'.2.2.2.1]
              exact jI_in (by omega) (by omega) (by omega)
            have hnt : (jI i + jI p).toNatClampNeg = i + p := by
              rw [jI_add, jI_nat (by omega) (by omega)]
              omega
            refine ⟨k'.1, _, k'.2.1, Or.inl k'.2.2.1, hin, ?_⟩
            rw [hnt, show hI h' 4 (i + p) = h0.1 4 (i + p) from hz _ (Nat.le_refl _)]
            refine ⟨k'.1, _, k'.2.1, k'.2.2.1, hin, ?_⟩
            rw [hnt, wd_L, jL_mul, jL_add, jL_add, jL_I]
            have x1 := wd_lt (h.1 (a + 1) i)
            have x2 := wd_lt (h.1 (b + 1) p)
            have x3 := wd_lt (h0.1 4 (i + p))
            have x4 : wd (h.1 (a + 1) i) * wd (h.1 (b + 1) p) ≤ 4294967295 * 4294967295 := Nat.mul_le_mul (by omega) (by omega)
            have s1 : mag (h0.1 4) (i + (p + 1)) = mag (h0.1 4) (i + p) + wd (h0.1 4 (i + p)) * 4294967296 ^ (i + p) := rfl
            have s2 : pm (h.1 (b + 1)) nb (p + 1) = pm (h.1 (b + 1)) nb p + wd (h.1 (b + 1) p) * 4294967296 ^ p := by
              rw [pm_s, if_pos (by omega)]
            have ecast : (cr : Int) + ((wd (h.1 (a + 1) i) : Int) * wd (h.1 (b + 1) p) + wd (h0.1 4 (i + p))) = ((cr + (wd (h.1 (a + 1) i) * wd (h.1 (b + 1) p) + wd (h0.1 4 (i + p))) : Nat) : Int) := by
              push_cast
              rfl
            rw [ecast]
            generalize hT : cr + (wd (h.1 (a + 1) i) * wd (h.1 (b + 1) p) + wd (h0.1 4 (i + p))) = T
            refine ihq (p + 1) (T / 4294967296) _ _ _ (by omega) (hf.sI (by simp) _ _) ?_ (by omega) ?_ ?_ (jI_add _ _) ?_
            · exact (congrFun (sI_a h' (by decide) _ _) 1).trans hl
            · intro z hz2
              rw [show (sI h' 4 (i + p) (jI T)).1 4 z = h'.1 4 z from sI_k h' 4 (by omega) _]
              exact hz z (by omega)
            · rw [show i + (p + 1) = (i + p) + 1 by omega, mag_put (sI_row h' 4 (i + p) _).1 (sI_row h' 4 (i + p) _).2, wd_jI, show ((T : Int) % 4294967296).toNat = T % 4294967296 by omega, Nat.pow_succ]
              rw [show (i + p) + 1 = i + (p + 1) by omega, s1, s2]
              have e2 := Nat.div_add_mod T 4294967296
              have e3 : mag (h'.1 4) (i + p) + T % 4294967296 * 4294967296 ^ (i + p) + T / 4294967296 * (4294967296 ^ (i + p) * 4294967296) = mag (h'.1 4) (i + p) + (4294967296 * (T / 4294967296) + T % 4294967296) * 4294967296 ^ (i + p) := by grind
              rw [e3, e2, ← hT]
              have e4 : (4294967296 : Nat) ^ (i + p) = 4294967296 ^ i * 4294967296 ^ p := Nat.pow_add _ _ _
              rw [e4] at hm2 ⊢
              grind
            · rw [jL_ushr (K := 32) 32 (by decide) rfl]
              congr 1
              omega
      have a0' := a0.fr hf.1
      refine hR 60 22 _ _ _ _ _ _ rfl ?_
      refine ⟨a0'.1, ?_⟩
      have la : hI h0 a 1 = jI na := by
        show h0.1 a 1 = _
        rw [hf.2 a (by simp; omega)]; exact a2
      rw [la]
      refine ⟨fun c => ?_, fun c => ?_⟩
      · simp (disch := omega) only [mj_lcm, jI_lt, jI_le, jI_eq, jL_lt, jL_le, jL_eq, jI_lt0, jI_0le, jI_0lt, jI_le0, jI_eq0, jL_eq0, jI_L, jI_add, jI_sub, jI_mul, jI_neg, jL_add, jL_sub, jL_mul, jL_neg, jL_I, jI_div, jI_mod, jL_div, jL_mod] at c
        omega
      · exact inner nb 0 0 _ _ _ (by omega) hf hl (by decide) (fun _ _ => rfl) (by rw [pm_0]; simp) rfl rfl
  have zero : ∀ (j k : Nat) (kI : Int32) (h' : mj_H), k + j = na + nb → FrI [3, 4] h h' → hI h' 3 1 = jI (na + nb : Nat) → mag (h'.1 4) k = 0 → kI = jI k → Run 16 [some (.ref 3), some (.ref t), some (.ref a), some (.ref b), some (.int kI), none, none, none] [] h' (0, 0) := by
    intro j
    induction j with
    | zero =>
      rintro k kI h' hkj hf hl hm rfl
      have k' := hk.fr hf.1
      have hkk : k = na + nb := by omega
      subst hkk
      refine hR 60 9 _ _ _ _ _ _ rfl ?_
      refine ⟨k'.1, ?_⟩
      rw [hl]
      refine ⟨fun c => ?_, fun c => absurd (by simp (disch := omega) only [mj_lcm, jI_lt, jI_le, jI_eq, jL_lt, jL_le, jL_eq, jI_lt0, jI_0le, jI_0lt, jI_le0, jI_eq0, jL_eq0, jI_L, jI_add, jI_sub, jI_mul, jI_neg, jL_add, jL_sub, jL_mul, jL_neg, jL_I, jI_div, jI_mod, jL_div, jL_mod]; omega) c⟩
      refine outer na 0 _ h' _ _ _ (by omega) hf hl ?_ rfl
      rw [pm_0, Nat.zero_mul, Nat.zero_add]
      have mono : ∀ (x : Nat), mag (h'.1 4) nb ≤ mag (h'.1 4) (nb + x) := by
        intro x
        induction x with
        | zero => exact Nat.le_refl _
        | succ x ihx => exact Nat.le_trans ihx (Nat.le_add_right _ _)
      have := mono na
      rw [Nat.add_comm, hm] at this
      omega
    | succ j ih =>
      rintro k kI h' hkj hf hl hm rfl
      have k' := hk.fr hf.1
      refine hR 60 9 _ _ _ _ _ _ rfl ?_
      refine ⟨k'.1, ?_⟩
      rw [hl]
      refine ⟨fun c => ?_, fun c => ⟨k'.1, _, k'.2.1, k'.2.2.1, ?_, ?_⟩⟩
      · simp (disch := omega) only [mj_lcm, jI_lt, jI_le, jI_eq, jL_lt, jL_le, jL_eq, jI_lt0, jI_0le, jI_0lt, jI_le0, jI_eq0, jL_eq0, jI_L, jI_add, jI_sub, jI_mul, jI_neg, jL_add, jL_sub, jL_mul, jL_neg, jL_I, jI_div, jI_mod, jL_div, jL_mod] at c
        omega
      · rw [k'.2.2.2.1]
        exact jI_in (by omega) (by omega) (by omega)
      · rw [jI_nat (by omega) (by omega), show Int.toNat (k : Nat) = k from rfl]
        refine ih (k + 1) _ _ (by omega) (hf.sI (by simp) _ _) ?_ ?_ (jI_add _ _)
        · exact (congrFun (sI_a h' (by decide) _ _) 1).trans hl
        · rw [mag_put (sI_row h' 4 k _).1 (sI_row h' 4 k _).2, hm, wd_jI]
          simp
  refine hR 60 0 _ _ _ _ _ _ rfl ?_
  refine ⟨a0.1, b0.1, hk.1, ?_⟩
  rw [a2, b2, jI_add]
  exact zero (na + nb) 0 _ _ (by omega) ((FrI.refl _ h).sI (by simp) _ _) (sI_at _ _ _ _) rfl rfl
