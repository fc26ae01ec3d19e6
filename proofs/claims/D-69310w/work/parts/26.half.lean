/-! a long number is halved -/
/-- FormHouse$Reckoner.moveUp(LFormHouse$Whole;I[II)V; cuts at [6, 45] -/
def cl_55_1 : List mj_E := (39, false, .iinc 6 1, 3, 0, 0, 0, jI 1, 0) ::
  (42, false, .goto (-36), 3, 4, 0, 0, 0, 0) ::
  (45, true, .iload_n 1, 1, 0, 0, 0, 0, 0) ::
  (46, false, .aload_n 2, 1, 0, 0, 0, 0, 0) ::
  (47, false, .arraylength, 1, 0, 0, 0, 0, 0) ::
  (48, false, .if_icmp .ge 9, 3, 35, 0, 0, 0, 0) ::
  (51, false, .aload_n 2, 1, 0, 0, 0, 0, 0) ::
  (52, false, .iload_n 1, 1, 0, 0, 0, 0, 0) ::
  (53, false, .lload 4, 2, 0, 0, 0, 0, 0) ::
  (55, false, .l2i, 1, 0, 0, 0, 0, 0) ::
  (56, false, .iastore, 1, 0, 0, 0, 0, 0) ::
  (57, false, .return_, 1, 0, 0, 0, 0, 0) ::
  []
def cl_55_0 : List mj_E := (0, false, .lconst 0, 1, 0, 0, 0, 0, jL 0) ::
  (1, false, .lstore 4, 2, 0, 0, 0, 0, 0) ::
  (3, false, .iconst 0, 1, 0, 0, 0, jI 0, 0) ::
  (4, false, .istore 6, 2, 0, 0, 0, 0, 0) ::
  (6, true, .iload 6, 2, 0, 0, 0, 0, 0) ::
  (8, false, .iload_n 1, 1, 0, 0, 0, 0, 0) ::
  (9, false, .if_icmp .ge 36, 3, 26, 0, 0, 0, 0) ::
  (12, false, .lload 4, 2, 0, 0, 0, 0, 0) ::
  (14, false, .aload_n 0, 1, 0, 0, 0, 0, 0) ::
  (15, false, .iload 6, 2, 0, 0, 0, 0, 0) ::
  (17, false, .invokevirtual 41, 3, 32, 1, 5, 0, 0) ::
  (20, false, .iload_n 3, 1, 0, 0, 0, 0, 0) ::
  (21, false, .lshl, 1, 0, 0, 0, 0, 0) ::
  (22, false, .lor, 1, 0, 0, 0, 0, 0) ::
  (23, false, .lstore 4, 2, 0, 0, 0, 0, 0) ::
  (25, false, .aload_n 2, 1, 0, 0, 0, 0, 0) ::
  (26, false, .iload 6, 2, 0, 0, 0, 0, 0) ::
  (28, false, .lload 4, 2, 0, 0, 0, 0, 0) ::
  (30, false, .l2i, 1, 0, 0, 0, 0, 0) ::
  (31, false, .iastore, 1, 0, 0, 0, 0, 0) ::
  (32, false, .lload 4, 2, 0, 0, 0, 0, 0) ::
  (34, false, .bipush 32, 2, 0, 0, 0, jI 32, 0) ::
  (36, false, .lushr, 1, 0, 0, 0, 0, 0) ::
  (37, false, .lstore 4, 2, 0, 0, 0, 0, 0) ::
  cl_55_1
def cd_55 : List mj_E := cl_55_0
def cx_55 : mj_X := (0, [], [])
theorem tb_55 : mj_tab (mj_mt 55) cx_55 cd_55 mj_mh [(0, 0, 0), (0, 0, 0), (0, 0, 0), (0, 0, 0), (0, 0, 0), (0, 0, 0), (0, 0, 0), (0, 0, 0), (0, 0, 0), (0, 0, 0), (3109, 0, 0), (0, 0, 0), (0, 0, 0), (0, 0, 0), (0, 0, 0), (0, 0, 0), (0, 0, 0), (0, 0, 0), (0, 0, 0), (0, 0, 0), (0, 0, 0), (0, 0, 0), (0, 0, 0), (0, 0, 0), (0, 0, 0), (0, 0, 0), (0, 0, 0), (0, 0, 0), (0, 0, 0), (0, 0, 0), (0, 0, 0), (0, 0, 0), (0, 0, 0), (0, 0, 0), (0, 0, 0), (0, 0, 0)] = true := mj_tab_f (by decide +kernel)
theorem ct_55 (G : mj_G) {h : mj_H} {a r : Nat} {n N : Nat} (ha : isW0 h a) (hr : hK h r = 1) (hNr : hN h r = N) (hN2 : N ≤ 2000) (hn : n ≤ 1024) (hnN : n ≤ N) (hra : r ≠ a + 1) (hra2 : r ≠ a) : mj_Ct G (mj_mt 55) 0 0 [.ref a, .int (jI n), .ref r, .int (jI 30)] h (fun o h' => o = .returned none ∧ FrI [r] h h' ∧ ∃ c : Nat, c < 1073741824 ∧ mag (h'.1 r) n + c * 4294967296 ^ n = mag (h.1 (a + 1)) n * 1073741824 ∧ (n < N → wd (h'.1 r n) = c)) := by
  refine mj_Ct_of mj_ok tb_55 rfl rfl (Nat.le_of_ble_eq_true rfl) (fun Run hR => ?_)
  have r45 : ∀ (c : Nat) (cL : Int64) (x6 : Option Value) (h' : mj_H), FrI [r] h h' → c < 1073741824 → mag (h'.1 r) n + c * 4294967296 ^ n = mag (h.1 (a + 1)) n * 1073741824 → cL = jL c → Run 45 [some (.ref a), some (.int (jI n)), some (.ref r), some (.int (jI 30)), some (.long cL), none, x6] [] h' (0, 0) := by
    rintro c cL x6 h' hf hc hm rfl
    have kr : hK h' r = 1 := by show (h'.2.2.2.1 r).1 = 1; rw [hf.1]; exact hr
    have nr : hN h' r = N := by show (h'.2.2.2.1 r).2 = N; rw [hf.1]; exact hNr
    refine hR 30 26 _ _ _ _ _ _ rfl ?_
    refine ⟨⟨by rw [kr]; decide, by rw [kr]; decide⟩, ?_⟩
    rw [nr, show Int32.ofNat N = jI N from (Int32.ofInt_eq_ofNat).symm]
    refine ⟨fun c1 => ?_, fun c1 => ?_⟩
    · simp (disch := omega) only [mj_lcm, jI_lt, jI_le, jI_eq, jL_lt, jL_le, jL_eq, jI_lt0, jI_0le, jI_0lt, jI_le0, jI_eq0, jL_eq0, jI_L, jI_add, jI_sub, jI_mul, jI_neg, jL_add, jL_sub, jL_mul, jL_neg, jL_I, jI_div, jI_mod, jL_div, jL_mod] at c1
      exact ⟨rfl, hf, c, hc, hm, fun z => by omega⟩
    · simp (disch := omega) only [mj_lcm, jI_lt, jI_le, jI_eq, jL_lt, jL_le, jL_eq, jI_lt0, jI_0le, jI_0lt, jI_le0, jI_eq0, jL_eq0, jI_L, jI_add, jI_sub, jI_mul, jI_neg, jL_add, jL_sub, jL_mul, jL_neg, jL_I, jI_div, jI_mod, jL_div, jL_mod] at c1
      refine ⟨kr, ?_, ?_⟩
      · rw [nr]
        exact jI_in (by omega) (by omega) (by omega)
      · rw [jI_nat (by omega) (by omega), show Int.toNat (n : Nat) = n from rfl, jL_I]
        refine ⟨rfl, hf.sI (by simp) _ _, c, hc, ?_, fun _ => ?_⟩
        · rw [mag_congr (sI_row h' r n _).1]
          exact hm
        · rw [(sI_row h' r n _).2, wd_jI]
          omega
  have loop : ∀ (j k c : Nat) (kI : Int32) (cL : Int64) (h' : mj_H), k + j = n → FrI [r] h h' → c < 1073741824 → mag (h'.1 r) k + c * 4294967296 ^ k = mag (h.1 (a + 1)) k * 1073741824 → kI = jI k → cL = jL c → Run 6 [some (.ref a), some (.int (jI n)), some (.ref r), some (.int (jI 30)), some (.long cL), none, some (.int kI)] [] h' (0, 0) := by
    intro j
    induction j with
    | zero =>
      rintro k c kI cL h' hkj hf hc hm rfl rfl
      have hkn : k = n := by omega
      subst hkn
      refine hR 30 4 _ _ _ _ _ _ rfl ?_
      refine ⟨fun c1 => ?_, fun c1 => absurd (by simp (disch := omega) only [mj_lcm, jI_lt, jI_le, jI_eq, jL_lt, jL_le, jL_eq, jI_lt0, jI_0le, jI_0lt, jI_le0, jI_eq0, jL_eq0, jI_L, jI_add, jI_sub, jI_mul, jI_neg, jL_add, jL_sub, jL_mul, jL_neg, jL_I, jI_div, jI_mod, jL_div, jL_mod]; omega) c1⟩
      exact r45 c _ _ h' hf hc hm rfl
    | succ j ih =>
      rintro k c kI cL h' hkj hf hc hm rfl rfl
      have a0 := ha.fr hf.1
      have kr : hK h' r = 1 := by show (h'.2.2.2.1 r).1 = 1; rw [hf.1]; exact hr
      have nr : hN h' r = N := by show (h'.2.2.2.1 r).2 = N; rw [hf.1]; exact hNr
      have wa : hI h' (a + 1) k = h.1 (a + 1) k := by
        show h'.1 (a + 1) k = _
        rw [hf.2 (a + 1) (by simp; omega)]
      refine hR 30 4 _ _ _ _ _ _ rfl ?_
      refine ⟨fun c1 => ?_, fun c1 => ?_⟩
      · simp (disch := omega) only [mj_lcm, jI_lt, jI_le, jI_eq, jL_lt, jL_le, jL_eq, jI_lt0, jI_0le, jI_0lt, jI_le0, jI_eq0, jL_eq0, jI_L, jI_add, jI_sub, jI_mul, jI_neg, jL_add, jL_sub, jL_mul, jL_neg, jL_I, jI_div, jI_mod, jL_div, jL_mod] at c1
        omega
      · refine ⟨a0.1, jcall (ct_32 G a0 (by omega) (by omega)) ?_⟩
        rw [show Int.toNat (k : Nat) = k from rfl, wa]
        have hx := wd_lt (h.1 (a + 1) k)
        have s1 : mag (h.1 (a + 1)) (k + 1) = mag (h.1 (a + 1)) k + wd (h.1 (a + 1) k) * 4294967296 ^ k := rfl
        generalize wd (h.1 (a + 1) k) = x at hx s1
        obtain ⟨T, hT⟩ : ∃ T : Nat, T = x * 1073741824 + c := ⟨_, rfl⟩
        have hT2 : T < 4611686018427387904 := by omega
        have hT3 : T / 4294967296 < 1073741824 := by omega
        have eo : jL c ||| (jL x <<< ((jI 30).toInt64 &&& 63)) = jL T := by
          rw [jL_shl (K := 30) 30 (by decide) rfl, Int64.or_comm, jL_or (by decide) (by omega) (by omega), hT, Int.natCast_add, Int.natCast_mul]
          rw [show (2 : Int) ^ 30 = ((1073741824 : Nat) : Int) from rfl]
        refine ⟨kr, ?_, ?_⟩
        · rw [nr]
          exact jI_in (by omega) (by omega) (by omega)
        · rw [jI_nat (by omega) (by omega), show Int.toNat (k : Nat) = k from rfl, eo, jL_I]
          have e4 : mag (h'.1 r) k + T * 4294967296 ^ k = (mag (h.1 (a + 1)) k + x * 4294967296 ^ k) * 1073741824 := by
            rw [hT]
            generalize 4294967296 ^ k = q at hm
            grind
          clear hT eo
          refine ih (k + 1) (T / 4294967296) _ _ _ (by omega) (hf.sI (by simp) _ _) hT3 ?_ (jI_add _ _) ?_
          · rw [mag_put (sI_row h' r k _).1 (sI_row h' r k _).2, wd_jI, s1, ← e4]
            have e1 : ((T : Int) % 4294967296).toNat = T % 4294967296 := by omega
            rw [e1, Nat.pow_succ]
            have e2 := Nat.div_add_mod T 4294967296
            generalize 4294967296 ^ k = q
            generalize T / 4294967296 = u at e2
            generalize T % 4294967296 = v at e2
            rw [← e2]
            grind
          · rw [jL_ushr (K := 32) 32 (by decide) rfl]
            congr 1
            omega
  refine hR 30 0 _ _ _ _ _ _ rfl ?_
  exact loop n 0 0 _ _ h (by omega) (FrI.refl _ h) (by decide) (by simp [mag]) rfl rfl
