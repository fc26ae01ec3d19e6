/-! contract: a character -/
def chV (g : Fm) (p : Nat) : Int := if g.1 % (p : Int) ≠ 0 then g.1 else if g.2.2 % (p : Int) ≠ 0 then g.2.2 else g.1 + g.2.1 + g.2.2
theorem tmod0 (a : Int) (p : Nat) : a.tmod p = 0 ↔ a % (p : Int) = 0 := by
  constructor
  · intro h
    exact Int.emod_eq_zero_of_dvd (Int.dvd_of_tmod_eq_zero h)
  · intro h
    exact Int.tmod_eq_zero_of_dvd (Int.dvd_of_emod_eq_zero h)
theorem leg_pow {V p : Nat} (hp : Pr p) (h2 : p % 2 = 1) (hv : V % p ≠ 0) : legN V p = if V ^ (p / 2) % p = 1 then 1 else -1 := by
  have hnd : ¬ p ∣ V := fun z => hv (Nat.mod_eq_zero_of_dvd z)
  have hg := gauss_pow hp h2 hnd
  have hp2 := hp.1
  unfold legN
  rw [if_neg hv]
  have e : ((V ^ (p / 2) % p : Nat) : Int) = (V : Int) ^ (p / 2) % p := by rw [Int.natCast_emod, Int.natCast_pow]
  rcases sgN_pm (muN V p) with g | g
  · rw [g] at hg ⊢
    have h3 := (Int.emod_eq_emod_iff_emod_sub_eq_zero (m := (V : Int) ^ (p / 2)) (k := 1) (n := (p : Int))).2 (Int.emod_eq_zero_of_dvd hg)
    rw [← e, Int.emod_eq_of_lt (by decide) (by omega)] at h3
    rw [if_pos (by omega)]
  · rw [g] at hg ⊢
    rw [if_neg]
    intro h4
    rw [h4] at e
    have h3 := (Int.emod_eq_emod_iff_emod_sub_eq_zero (m := (V : Int) ^ (p / 2)) (k := -1) (n := (p : Int))).2 (Int.emod_eq_zero_of_dvd hg)
    rw [← e] at h3
    have h5 : (p : Int) ∣ 2 := by
      have := (Int.emod_eq_emod_iff_emod_sub_eq_zero (m := ((1 : Nat) : Int)) (k := -1) (n := (p : Int))).1 (by rw [← h3, Int.emod_eq_of_lt (by omega) (by omega)])
      exact Int.dvd_of_emod_eq_zero this
    have := Int.le_of_dvd (by decide) h5
    omega
theorem pow_half (P X e p : Nat) : (P * X ^ e) % p = ((if e % 2 = 1 then P * X % p else P) * (X * X % p) ^ (e / 2)) % p := by
  have h1 : (X * X % p) ^ (e / 2) % p = (X * X) ^ (e / 2) % p := by rw [← Nat.pow_mod]
  have h2 : (X * X) ^ (e / 2) = X ^ (2 * (e / 2)) := by
    rw [Nat.pow_mul]
    congr 1
    rw [Nat.pow_two]
  by_cases g : e % 2 = 1
  · rw [if_pos g, Nat.mul_mod (P * X % p), h1, Nat.mod_mod, ← Nat.mul_mod, h2, Nat.mul_assoc]
    congr 2
    have : X ^ e = X ^ (2 * (e / 2) + 1) := by rw [show 2 * (e / 2) + 1 = e by omega]
    rw [this, Nat.pow_succ, Nat.mul_comm]
  · rw [if_neg g, Nat.mul_mod P ((X * X % p) ^ (e / 2)), h1, ← Nat.mul_mod, h2, show 2 * (e / 2) = e by omega]
/-- FormHouse$Characters.of(LFormHouse$Form;I)I; cuts at [7, 26, 45, 59, 73, 80, 103, 113, 122] -/
def cl_124_3 : List mj_E := (116, false, .ishr, 1, 0, 0, 0, 0, 0) ::
  (117, false, .istore 10, 2, 0, 0, 0, 0, 0) ::
  (119, false, .goto (-39), 3, 49, 0, 0, 0, 0) ::
  (122, true, .lload 6, 2, 0, 0, 0, 0, 0) ::
  (124, false, .lconst 1, 1, 0, 0, 0, 0, jL 1) ::
  (125, false, .lcmp, 1, 0, 0, 0, 0, 0) ::
  (126, false, .ifCond .ne 7, 3, 81, 0, 0, 0, 0) ::
  (129, false, .iconst 1, 1, 0, 0, 0, jI 1, 0) ::
  (130, false, .goto 4, 3, 82, 0, 0, 0, 0) ::
  (133, false, .iconst (-1), 1, 0, 0, 0, jI (-1), 0) ::
  (134, false, .ireturn, 1, 0, 0, 0, 0, 0) ::
  []
def cl_124_2 : List mj_E := (78, false, .istore 10, 2, 0, 0, 0, 0, 0) ::
  (80, true, .iload 10, 2, 0, 0, 0, 0, 0) ::
  (82, false, .ifCond .le 40, 3, 75, 0, 0, 0, 0) ::
  (85, false, .iload 10, 2, 0, 0, 0, 0, 0) ::
  (87, false, .iconst 1, 1, 0, 0, 0, jI 1, 0) ::
  (88, false, .iand, 1, 0, 0, 0, 0, 0) ::
  (89, false, .iconst 1, 1, 0, 0, 0, jI 1, 0) ::
  (90, false, .if_icmp .ne 13, 3, 63, 0, 0, 0, 0) ::
  (93, false, .lload 6, 2, 0, 0, 0, 0, 0) ::
  (95, false, .lload 8, 2, 0, 0, 0, 0, 0) ::
  (97, false, .lmul, 1, 0, 0, 0, 0, 0) ::
  (98, false, .iload_n 3, 1, 0, 0, 0, 0, 0) ::
  (99, false, .i2l, 1, 0, 0, 0, 0, 0) ::
  (100, false, .lrem, 1, 0, 0, 0, 0, 0) ::
  (101, false, .lstore 6, 2, 0, 0, 0, 0, 0) ::
  (103, true, .lload 8, 2, 0, 0, 0, 0, 0) ::
  (105, false, .lload 8, 2, 0, 0, 0, 0, 0) ::
  (107, false, .lmul, 1, 0, 0, 0, 0, 0) ::
  (108, false, .iload_n 3, 1, 0, 0, 0, 0, 0) ::
  (109, false, .i2l, 1, 0, 0, 0, 0, 0) ::
  (110, false, .lrem, 1, 0, 0, 0, 0, 0) ::
  (111, false, .lstore 8, 2, 0, 0, 0, 0, 0) ::
  (113, true, .iload 10, 2, 0, 0, 0, 0, 0) ::
  (115, false, .iconst 1, 1, 0, 0, 0, jI 1, 0) ::
  cl_124_3
def cl_124_1 : List mj_E := (38, false, .aload_n 1, 1, 0, 0, 0, 0, 0) ::
  (39, false, .getfield 33, 3, 6, 2, 1, 0, 0) ::
  (42, false, .goto 17, 3, 35, 0, 0, 0, 0) ::
  (45, true, .aload_n 1, 1, 0, 0, 0, 0, 0) ::
  (46, false, .getfield 27, 3, 6, 0, 1, 0, 0) ::
  (49, false, .aload_n 1, 1, 0, 0, 0, 0, 0) ::
  (50, false, .getfield 36, 3, 6, 1, 1, 0, 0) ::
  (53, false, .ladd, 1, 0, 0, 0, 0, 0) ::
  (54, false, .aload_n 1, 1, 0, 0, 0, 0, 0) ::
  (55, false, .getfield 33, 3, 6, 2, 1, 0, 0) ::
  (58, false, .ladd, 1, 0, 0, 0, 0, 0) ::
  (59, true, .lstore 4, 2, 0, 0, 0, 0, 0) ::
  (61, false, .lconst 1, 1, 0, 0, 0, 0, jL 1) ::
  (62, false, .lstore 6, 2, 0, 0, 0, 0, 0) ::
  (64, false, .lload 4, 2, 0, 0, 0, 0, 0) ::
  (66, false, .iload_n 3, 1, 0, 0, 0, 0, 0) ::
  (67, false, .i2l, 1, 0, 0, 0, 0, 0) ::
  (68, false, .invokestatic 39, 3, 29, 2, 0, 0, 0) ::
  (71, false, .lstore 8, 2, 0, 0, 0, 0, 0) ::
  (73, true, .iload_n 3, 1, 0, 0, 0, 0, 0) ::
  (74, false, .iconst 1, 1, 0, 0, 0, jI 1, 0) ::
  (75, false, .isub, 1, 0, 0, 0, 0, 0) ::
  (76, false, .iconst 2, 1, 0, 0, 0, jI 2, 0) ::
  (77, false, .idiv, 1, 0, 0, 0, 0, 0) ::
  cl_124_2
def cl_124_0 : List mj_E := (0, false, .aload_n 0, 1, 0, 0, 0, 0, 0) ::
  (1, false, .getfield 9, 3, 11, 1, 2, 0, 0) ::
  (4, false, .iload_n 2, 1, 0, 0, 0, 0, 0) ::
  (5, false, .iaload, 1, 0, 0, 0, 0, 0) ::
  (6, false, .istore_n 3, 1, 0, 0, 0, 0, 0) ::
  (7, true, .aload_n 1, 1, 0, 0, 0, 0, 0) ::
  (8, false, .getfield 27, 3, 6, 0, 1, 0, 0) ::
  (11, false, .iload_n 3, 1, 0, 0, 0, 0, 0) ::
  (12, false, .i2l, 1, 0, 0, 0, 0, 0) ::
  (13, false, .lrem, 1, 0, 0, 0, 0, 0) ::
  (14, false, .lconst 0, 1, 0, 0, 0, 0, jL 0) ::
  (15, false, .lcmp, 1, 0, 0, 0, 0, 0) ::
  (16, false, .ifCond .eq 10, 3, 16, 0, 0, 0, 0) ::
  (19, false, .aload_n 1, 1, 0, 0, 0, 0, 0) ::
  (20, false, .getfield 27, 3, 6, 0, 1, 0, 0) ::
  (23, false, .goto 36, 3, 35, 0, 0, 0, 0) ::
  (26, true, .aload_n 1, 1, 0, 0, 0, 0, 0) ::
  (27, false, .getfield 33, 3, 6, 2, 1, 0, 0) ::
  (30, false, .iload_n 3, 1, 0, 0, 0, 0, 0) ::
  (31, false, .i2l, 1, 0, 0, 0, 0, 0) ::
  (32, false, .lrem, 1, 0, 0, 0, 0, 0) ::
  (33, false, .lconst 0, 1, 0, 0, 0, 0, jL 0) ::
  (34, false, .lcmp, 1, 0, 0, 0, 0, 0) ::
  (35, false, .ifCond .eq 10, 3, 27, 0, 0, 0, 0) ::
  cl_124_1
def cd_124 : List mj_E := cl_124_0
def cx_124 : mj_X := (1, [], [])
theorem tb_124 : mj_tab (mj_mt 124) cx_124 cd_124 mj_mh [(0, 0, 0), (2131, 0, 0), (0, 0, 0), (0, 0, 0), (0, 0, 0), (0, 0, 0), (1158, 0, 0), (0, 0, 0), (0, 0, 0), (0, 0, 0), (0, 0, 0), (0, 0, 0), (0, 0, 0), (0, 0, 0), (1158, 0, 0), (0, 0, 0), (0, 0, 0), (1175, 0, 0), (0, 0, 0), (0, 0, 0), (0, 0, 0), (0, 0, 0), (0, 0, 0), (0, 0, 0), (0, 0, 0), (1175, 0, 0), (0, 0, 0), (0, 0, 0), (1158, 0, 0), (0, 0, 0), (1169, 0, 0), (0, 0, 0), (0, 0, 0), (1175, 0, 0), (0, 0, 0), (0, 0, 0), (0, 0, 0), (0, 0, 0), (0, 0, 0), (0, 0, 0), (0, 0, 0), (5166, 0, 0), (0, 0, 0), (0, 0, 0), (0, 0, 0), (0, 0, 0), (0, 0, 0), (0, 0, 0), (0, 0, 0), (0, 0, 0), (0, 0, 0), (0, 0, 0), (0, 0, 0), (0, 0, 0), (0, 0, 0), (0, 0, 0), (0, 0, 0), (0, 0, 0), (0, 0, 0), (0, 0, 0), (0, 0, 0), (0, 0, 0), (0, 0, 0), (0, 0, 0), (0, 0, 0), (0, 0, 0), (0, 0, 0), (0, 0, 0), (0, 0, 0), (0, 0, 0), (0, 0, 0), (0, 0, 0), (0, 0, 0), (0, 0, 0), (0, 0, 0), (0, 0, 0), (0, 0, 0), (0, 0, 0), (0, 0, 0), (0, 0, 0), (0, 0, 0), (0, 0, 0), (0, 0, 0)] = true := mj_tab_f (by decide +kernel)
theorem ct_124 (G : mj_G) {h : mj_H} (L : isLay h) {ps : List Nat} (hc : isCh h ps) {k p f : Nat} (hk : ps[k]? = some p) (hp : Pr p) (h2 : p % 2 = 1) (hpb : p ≤ 1048576) {g : Fm} (hf : isFm h f g) (hb : (-1099511627776 < g.1 ∧ g.1 < 1099511627776) ∧ (-1099511627776 < g.2.1 ∧ g.2.1 < 1099511627776) ∧ (-1099511627776 < g.2.2 ∧ g.2.2 < 1099511627776)) (hv : chV g p % (p : Int) ≠ 0) : mj_Ct G (mj_mt 124) 0 0 [.ref 67, .ref f, .int (jI k)] h (jR (.int (jI (legN (chV g p % (p : Int)).toNat p))) h) := by
  have hkl := lt_of_some hk
  have hp2 := hp.1
  obtain ⟨c1, c2, c3⟩ := hc
  obtain ⟨fk, fa, fb, fc⟩ := hf
  have hm0 : 0 ≤ chV g p % (p : Int) := Int.emod_nonneg _ (by omega)
  have hm1 : chV g p % (p : Int) < p := Int.emod_lt_of_pos _ (by omega)
  obtain ⟨V, hV⟩ : ∃ V : Nat, (V : Int) = chV g p % (p : Int) := ⟨_, Int.toNat_of_nonneg hm0⟩
  have hVn : (chV g p % (p : Int)).toNat = V := by omega
  rw [hVn, leg_pow hp h2 (by rw [Nat.mod_eq_of_lt (by omega)]; omega)]
  refine mj_Ct_of mj_ok tb_124 rfl rfl (Nat.le_of_ble_eq_true rfl) (fun Run hR => ?_)
  have r122 : ∀ (P : Nat) (pL : Int64) (x4 x5 x8 x9 x10 : Option Value), P < p → P % p = V ^ (p / 2) % p → pL = jL P → Run 122 [some (.ref 67), some (.ref f), some (.int (jI k)), some (.int (jI p)), x4, x5, some (.long pL), none, x8, x9, x10] [] h (0, 0) := by
    rintro P pL x4 x5 x8 x9 x10 hP he rfl
    rw [Nat.mod_eq_of_lt hP] at he
    refine hR 60 75 _ _ _ _ _ _ rfl ?_
    refine ⟨fun c => ?_, fun c => ?_⟩
    · simp (disch := omega) only [mj_lcm, jI_lt, jI_le, jI_eq, jL_lt, jL_le, jL_eq, jI_lt0, jI_0le, jI_0lt, jI_le0, jI_eq0, jL_eq0, jI_L, jI_add, jI_sub, jI_mul, jI_neg, jL_add, jL_sub, jL_mul, jL_neg, jL_I, jI_div, jI_mod, jL_div, jL_mod] at c
      refine jRe ?_
      rw [if_pos (by omega)]
    · simp (disch := omega) only [mj_lcm, jI_lt, jI_le, jI_eq, jL_lt, jL_le, jL_eq, jI_lt0, jI_0le, jI_0lt, jI_le0, jI_eq0, jL_eq0, jI_L, jI_add, jI_sub, jI_mul, jI_neg, jL_add, jL_sub, jL_mul, jL_neg, jL_I, jI_div, jI_mod, jL_div, jL_mod] at c
      refine jRe ?_
      rw [if_neg (by omega)]
  have r80 : ∀ (t P X e : Nat) (pL xL : Int64) (eI : Int32) (vL : Int64), e ≤ t → e < 2147483648 → P < p → X < p → (P * X ^ e) % p = V ^ (p / 2) % p → pL = jL P → xL = jL X → eI = jI e → Run 80 [some (.ref 67), some (.ref f), some (.int (jI k)), some (.int (jI p)), some (.long vL), none, some (.long pL), none, some (.long xL), none, some (.int eI)] [] h (0, 0) := by
    intro t
    have base : ∀ (P X e : Nat) (vL : Int64), e = 0 → P < p → (P * X ^ e) % p = V ^ (p / 2) % p → Run 80 [some (.ref 67), some (.ref f), some (.int (jI k)), some (.int (jI p)), some (.long vL), none, some (.long (jL P)), none, some (.long (jL X)), none, some (.int (jI e))] [] h (0, 0) := by
      rintro P X e vL rfl hP he
      refine hR 60 49 _ _ _ _ _ _ rfl ?_
      refine ⟨fun c => ?_, fun c => absurd (by decide) c⟩
      rw [Nat.pow_zero, Nat.mul_one] at he
      exact r122 P _ _ _ _ _ _ hP he rfl
    induction t with
    | zero =>
      rintro P X e pL xL eI vL ht hel hP hX he rfl rfl rfl
      exact base P X e vL (by omega) hP he
    | succ t ih =>
      rintro P X e pL xL eI vL ht hel hP hX he rfl rfl rfl
      by_cases e0 : e = 0
      · exact base P X e vL e0 hP he
      · have e1 : jI (e : Int) &&& jI 1 = jI ((e : Int) % 2) := jI_mask (k := 1) (by decide) rfl
        have esh : jI (e : Int) >>> (jI 1 &&& 31) = jI ((e / 2 : Nat) : Int) := by
          rw [jI_shr (K := 1) 1 (by decide) rfl (by omega) (by omega)]
          congr 1
        have mulp : ∀ {a b : Nat}, a < p → b < p → jL (a : Int) * jL (b : Int) % jL (p : Int) = jL ((a * b % p : Nat) : Int) := by
          intro a b ha hb'
          have : a * b ≤ p * p := Nat.mul_le_mul (by omega) (by omega)
          have h3 : p * p ≤ 1048576 * 1048576 := Nat.mul_le_mul hpb hpb
          have h4 : ((a * b : Nat) : Int) = (a : Int) * b := Int.natCast_mul ..
          rw [jL_mul, jL_mod (by omega) (by omega) (by omega) (by omega), ← h4]
          rfl
        have ipl : (jI (p : Int)).toInt64 = jL (p : Int) := jI_L (by omega) (by omega)
        have r113 : ∀ (P' X' : Nat) (xL : Int64), P' < p → X' < p → (P' * X' ^ (e / 2)) % p = V ^ (p / 2) % p → xL = jL X' → Run 113 [some (.ref 67), some (.ref f), some (.int (jI k)), some (.int (jI p)), some (.long vL), none, some (.long (jL P')), none, some (.long xL), none, some (.int (jI e))] [] h (0, 0) := by
          rintro P' X' xL hP' hX' he' rfl
          refine hR 60 70 _ _ _ _ _ _ rfl ?_
          exact ih P' X' (e / 2) _ _ _ _ (by omega) (by omega) hP' hX' he' rfl rfl esh
        have r103 : ∀ (P' : Nat) (pL : Int64), P' < p → (P' * (X * X % p) ^ (e / 2)) % p = V ^ (p / 2) % p → pL = jL P' → Run 103 [some (.ref 67), some (.ref f), some (.int (jI k)), some (.int (jI p)), some (.long vL), none, some (.long pL), none, some (.long (jL X)), none, some (.int (jI e))] [] h (0, 0) := by
          rintro P' pL hP' he' rfl
          refine hR 60 63 _ _ _ _ _ _ rfl ?_
          refine ⟨?_, ?_⟩
          · rw [ipl]
            simp (disch := omega) only [mj_lcm, jI_lt, jI_le, jI_eq, jL_lt, jL_le, jL_eq, jI_lt0, jI_0le, jI_0lt, jI_le0, jI_eq0, jL_eq0, jI_L, jI_add, jI_sub, jI_mul, jI_neg, jL_add, jL_sub, jL_mul, jL_neg, jL_I, jI_div, jI_mod, jL_div, jL_mod]
            omega
          · exact r113 P' (X * X % p) _ hP' (Nat.mod_lt _ (by omega)) he' (by rw [ipl, mulp hX hX])
        rw [pow_half] at he
        refine hR 60 49 _ _ _ _ _ _ rfl ?_
        refine ⟨fun c => ?_, fun c => ⟨fun c2 => ⟨?_, ?_⟩, fun c2 => ?_⟩⟩
        · simp (disch := omega) only [mj_lcm, jI_lt, jI_le, jI_eq, jL_lt, jL_le, jL_eq, jI_lt0, jI_0le, jI_0lt, jI_le0, jI_eq0, jL_eq0, jI_L, jI_add, jI_sub, jI_mul, jI_neg, jL_add, jL_sub, jL_mul, jL_neg, jL_I, jI_div, jI_mod, jL_div, jL_mod] at c
          omega
        · rw [ipl]
          simp (disch := omega) only [mj_lcm, jI_lt, jI_le, jI_eq, jL_lt, jL_le, jL_eq, jI_lt0, jI_0le, jI_0lt, jI_le0, jI_eq0, jL_eq0, jI_L, jI_add, jI_sub, jI_mul, jI_neg, jL_add, jL_sub, jL_mul, jL_neg, jL_I, jI_div, jI_mod, jL_div, jL_mod]
          omega
        · rw [e1] at c2
          simp (disch := omega) only [mj_lcm, jI_lt, jI_le, jI_eq, jL_lt, jL_le, jL_eq, jI_lt0, jI_0le, jI_0lt, jI_le0, jI_eq0, jL_eq0, jI_L, jI_add, jI_sub, jI_mul, jI_neg, jL_add, jL_sub, jL_mul, jL_neg, jL_I, jI_div, jI_mod, jL_div, jL_mod] at c2
          rw [if_pos (by omega)] at he
          exact r103 (P * X % p) _ (Nat.mod_lt _ (by omega)) he (by rw [ipl, mulp hP hX])
        · rw [e1] at c2
          simp (disch := omega) only [mj_lcm, jI_lt, jI_le, jI_eq, jL_lt, jL_le, jL_eq, jI_lt0, jI_0le, jI_0lt, jI_le0, jI_eq0, jL_eq0, jI_L, jI_add, jI_sub, jI_mul, jI_neg, jL_add, jL_sub, jL_mul, jL_neg, jL_I, jI_div, jI_mod, jL_div, jL_mod] at c2
          rw [if_neg (by omega)] at he
          exact r103 P _ hP he rfl
  have r73 : ∀ (xL vL : Int64) (x10 : Option Value), xL = jL V → Run 73 [some (.ref 67), some (.ref f), some (.int (jI k)), some (.int (jI p)), some (.long vL), none, some (.long (jL 1)), none, some (.long xL), none, x10] [] h (0, 0) := by
    rintro xL vL x10 rfl
    refine hR 60 43 _ _ _ _ _ _ rfl ?_
    refine ⟨by decide, ?_⟩
    refine r80 (p / 2) 1 V (p / 2) _ _ _ _ (Nat.le_refl _) (by omega) (by omega) (by omega) (by rw [Nat.one_mul]) rfl rfl ?_
    rw [jI_sub, jI_div (by omega) (by omega) (by decide) (by decide), Int.tdiv_eq_ediv_of_nonneg (by omega)]
    congr 1
    omega
  have hchb : -4398046511104 < chV g p ∧ chV g p < 4398046511104 := by
    unfold chV
    split
    · omega
    · split <;> omega
  have r59 : ∀ (vL : Int64) (x4 x5 x6 x7 x8 x9 x10 : Option Value), vL = jL (chV g p) → Run 59 [some (.ref 67), some (.ref f), some (.int (jI k)), some (.int (jI p)), x4, x5, x6, x7, x8, x9, x10] [.long vL] h (0, 0) := by
    rintro vL x4 x5 x6 x7 x8 x9 x10 rfl
    have c29 := ct_29 G (x := chV g p) (y := p) (by omega) (by omega) (by omega) (by omega) h
    rw [← hV, ← jI_L (a := (p : Int)) (by omega) (by omega)] at c29
    refine hR 60 35 _ _ _ _ _ _ rfl ?_
    refine jcall c29 ?_
    exact r73 _ _ _ rfl
  have ipl : (jI (p : Int)).toInt64 = jL (p : Int) := jI_L (by omega) (by omega)
  have modz : ∀ {a : Int}, -1099511627776 < a → a < 1099511627776 → (jL a % (jI (p : Int)).toInt64 = jL 0 ↔ a % (p : Int) = 0) := by
    intro a h3 h4
    rw [ipl, jL_mod (by omega) (by omega) (by omega) (by omega), ← tmod0]
    have := tmod_abs a p
    exact jL_eq (by omega) (by omega) (by decide) (by decide)
  have r45 : ∀ (x4 x5 x6 x7 x8 x9 x10 : Option Value), g.1 % (p : Int) = 0 → g.2.2 % (p : Int) = 0 → Run 45 [some (.ref 67), some (.ref f), some (.int (jI k)), some (.int (jI p)), x4, x5, x6, x7, x8, x9, x10] [] h (0, 0) := by
    intro x4 x5 x6 x7 x8 x9 x10 z1 z2
    refine hR 60 27 _ _ _ _ _ _ rfl ?_
    refine ⟨fk, fk, fk, ?_⟩
    refine r59 _ _ _ _ _ _ _ _ ?_
    unfold chV
    rw [if_neg (fun z => z z1), if_neg (fun z => z z2), fa, fb, fc, jL_add, jL_add]
  have r26 : ∀ (x4 x5 x6 x7 x8 x9 x10 : Option Value), g.1 % (p : Int) = 0 → Run 26 [some (.ref 67), some (.ref f), some (.int (jI k)), some (.int (jI p)), x4, x5, x6, x7, x8, x9, x10] [] h (0, 0) := by
    intro x4 x5 x6 x7 x8 x9 x10 z1
    refine hR 60 16 _ _ _ _ _ _ rfl ?_
    refine ⟨fk, ?_, ?_⟩
    · rw [ipl]
      simp (disch := omega) only [mj_lcm, jI_lt, jI_le, jI_eq, jL_lt, jL_le, jL_eq, jI_lt0, jI_0le, jI_0lt, jI_le0, jI_eq0, jL_eq0, jI_L, jI_add, jI_sub, jI_mul, jI_neg, jL_add, jL_sub, jL_mul, jL_neg, jL_I, jI_div, jI_mod, jL_div, jL_mod]
      omega
    · rw [fc]
      refine ⟨fun c => ?_, fun c => ⟨fk, ?_⟩⟩
      · exact r45 _ _ _ _ _ _ _ z1 ((modz (by omega) (by omega)).1 c)
      · refine r59 _ _ _ _ _ _ _ _ ?_
        unfold chV
        rw [if_neg (fun z => z z1), if_pos (fun z => c ((modz (by omega) (by omega)).2 z)), fc]
  have r7 : ∀ (pI : Int32) (x4 x5 x6 x7 x8 x9 x10 : Option Value), pI = jI p → Run 7 [some (.ref 67), some (.ref f), some (.int (jI k)), some (.int pI), x4, x5, x6, x7, x8, x9, x10] [] h (0, 0) := by
    rintro pI x4 x5 x6 x7 x8 x9 x10 rfl
    refine hR 60 5 _ _ _ _ _ _ rfl ?_
    refine ⟨fk, ?_, ?_⟩
    · rw [ipl]
      simp (disch := omega) only [mj_lcm, jI_lt, jI_le, jI_eq, jL_lt, jL_le, jL_eq, jI_lt0, jI_0le, jI_0lt, jI_le0, jI_eq0, jL_eq0, jI_L, jI_add, jI_sub, jI_mul, jI_neg, jL_add, jL_sub, jL_mul, jL_neg, jL_I, jI_div, jI_mod, jL_div, jL_mod]
      omega
    · rw [fa]
      refine ⟨fun c => ?_, fun c => ⟨fk, ?_⟩⟩
      · exact r26 _ _ _ _ _ _ _ ((modz (by omega) (by omega)).1 c)
      · refine r59 _ _ _ _ _ _ _ _ ?_
        unfold chV
        rw [if_pos (fun z => c ((modz (by omega) (by omega)).2 z)), fa]
  refine hR 60 0 _ _ _ _ _ _ rfl ?_
  refine ⟨L.K 67 rfl, _, L.R 67 1 _ rfl, Or.inl (L.K 68 rfl), ?_, ?_⟩
  · rw [show hN h 68 = 8 from L.N 67 rfl]
    exact jI_in (by omega) (by omega) (by omega)
  · refine r7 _ _ _ _ _ _ _ _ ?_
    rw [jI_nat (by omega) (by omega), Int.toNat_natCast]
    exact c3 k p hk
