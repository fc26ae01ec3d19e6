/-! the model: Kronecker's symbol, prime by prime -/
theorem pr_prodL {p : Nat} (hp : Pr p) : ∀ ps : List Nat, allP ps → p ∣ prodL ps → p ∈ ps
  | [], _, h => by
    have := Nat.le_of_dvd (by decide) (show p ∣ 1 from h)
    have := hp.1
    omega
  | q :: t, ha, h => by
    rcases pr_mul hp h with z | z
    · rcases (allP_h ha).1.2 p z with y | y
      · have := hp.1
        omega
      · rw [y]
        exact List.mem_cons_self ..
    · exact List.mem_cons_of_mem _ (pr_prodL hp t (allP_t ha) z)
theorem prodL_erase {p : Nat} : ∀ ps : List Nat, p ∈ ps → prodL ps = p * prodL (ps.erase p)
  | [], h => by simp at h
  | q :: t, h => by
    by_cases e : q = p
    · subst e
      rw [List.erase_cons_head]
      rfl
    · have hm : p ∈ t := by
        rcases List.mem_cons.1 h with g | g
        · exact absurd g.symm e
        · exact g
      rw [List.erase_cons_tail (by simpa using e)]
      show q * prodL t = p * (q * prodL (t.erase p))
      rw [prodL_erase t hm, Nat.mul_left_comm]
theorem jacL_erase {p v : Nat} : ∀ ps : List Nat, p ∈ ps → jacL v ps = legN v p * jacL v (ps.erase p)
  | [], h => by simp at h
  | q :: t, h => by
    by_cases e : q = p
    · subst e
      rw [List.erase_cons_head]
      rfl
    · have hm : p ∈ t := by
        rcases List.mem_cons.1 h with g | g
        · exact absurd g.symm e
        · exact g
      rw [List.erase_cons_tail (by simpa using e)]
      show legN v q * jacL v t = legN v p * (legN v q * jacL v (t.erase p))
      rw [jacL_erase t hm, Int.mul_left_comm]
def s2N (d : Int) : Int := if d % 2 = 0 then 0 else if d % 8 = 1 ∨ d % 8 = 7 then 1 else -1
/-- what is left to be multiplied -/
def krI (d : Int) (ps : List Nat) (R : Int) (l : Nat) (r : Int) : Prop := ∃ (e : Nat) (qs : List Nat), allP qs ∧ (∀ q, q ∈ qs → q ∈ ps) ∧ l = 2 ^ e * prodL qs ∧ r * (s2N d ^ e * jacL (d % (prodL ps : Int)).toNat qs) = R
theorem krI_one {d : Int} {ps : List Nat} {R r : Int} (h : krI d ps R 1 r) : r = R := by
  obtain ⟨e, qs, h1, h2, h3, h4⟩ := h
  have hq := (prodL_odd qs h1).2
  have he : e = 0 := by
    rcases Nat.eq_zero_or_pos e with z | z
    · exact z
    · have h5 : 2 ^ e % 2 = 0 := by
        rw [show e = (e - 1) + 1 by omega, Nat.pow_succ, Nat.mul_mod_left]
      have h6 : (2 ^ e * prodL qs) % 2 = 0 := by rw [Nat.mul_mod, h5, Nat.zero_mul, Nat.zero_mod]
      omega
  subst he
  have hqs : qs = [] := by
    cases qs with
    | nil => rfl
    | cons q t =>
      exfalso
      have hp := (allP_h h1).1.1
      have ht := (prodL_odd t (allP_t h1)).2
      have h5 : 1 = 2 ^ 0 * (q * prodL t) := h3
      have h6 : q * 1 ≤ q * prodL t := Nat.mul_le_mul_left _ ht
      rw [Nat.pow_zero, Nat.one_mul] at h5
      omega
  subst hqs
  rw [← h4, Int.pow_zero, Int.one_mul]
  exact (Int.mul_one r).symm
theorem legV {d : Int} {ps : List Nat} {p : Nat} (hps : allP ps) (hm : p ∈ ps) : legN (d % (prodL ps : Int)).toNat p = legN (d % (p : Int)).toNat p := by
  have h0 := (prodL_odd ps hps).2
  have hp := (hps p hm).1.1
  refine leg_congr ?_
  have h1 := Int.emod_nonneg d (show (prodL ps : Int) ≠ 0 by omega)
  have h2 := Int.emod_nonneg d (show (p : Int) ≠ 0 by omega)
  have e1 : (((d % (prodL ps : Int)).toNat % p : Nat) : Int) = ((d % (p : Int)).toNat % p : Nat) := by
    rw [Int.natCast_emod, Int.natCast_emod, Int.toNat_of_nonneg h1, Int.toNat_of_nonneg h2, Int.emod_emod_of_dvd _ (Int.natCast_dvd_natCast.2 (prodL_dvd ps p hm)), Int.emod_emod]
  omega
theorem krI_step {d : Int} {ps : List Nat} (hps : allP ps) {R r : Int} {l l' p : Nat} (hp : Pr p) (hl : l = p * l') (h : krI d ps R l r) : krI d ps R l' (r * syN d p) := by
  obtain ⟨e, qs, h1, h2, h3, h4⟩ := h
  have hp2 := hp.1
  have hq := prodL_odd qs h1
  by_cases e2 : p = 2
  · subst e2
    have he : 0 < e := by
      rcases Nat.eq_zero_or_pos e with z | z
      · subst z
        rw [Nat.pow_zero, Nat.one_mul] at h3
        omega
      · exact z
    refine ⟨e - 1, qs, h1, h2, ?_, ?_⟩
    · have h5 : 2 ^ e = 2 * 2 ^ (e - 1) := by
        rw [show e = (e - 1) + 1 by omega, Nat.pow_succ, Nat.mul_comm]
        rfl
      rw [hl, h5, Nat.mul_assoc] at h3
      exact Nat.eq_of_mul_eq_mul_left (by decide) h3
    · have h5 : s2N d ^ e = s2N d * s2N d ^ (e - 1) := by
        rw [show e = (e - 1) + 1 by omega, Int.pow_succ, Int.mul_comm]
        rfl
      rw [← h4, h5]
      show r * s2N d * _ = _
      rw [Int.mul_assoc, Int.mul_assoc]
  · have hd : p ∣ 2 ^ e * prodL qs := ⟨l', by rw [← h3, hl]⟩
    have hm : p ∈ qs := by
      rcases pr_mul hp hd with z | z
      · have h5 := pr_pow_dvd hp e z
        have := Nat.le_of_dvd (by decide) h5
        omega
      · exact pr_prodL hp qs h1 z
    have es : syN d p = legN (d % (p : Int)).toNat p := if_neg e2
    refine ⟨e, qs.erase p, fun q hq => h1 q (List.mem_of_mem_erase hq), fun q hq => h2 q (List.mem_of_mem_erase hq), ?_, ?_⟩
    · rw [hl, prodL_erase qs hm, Nat.mul_left_comm] at h3
      exact Nat.eq_of_mul_eq_mul_left (by omega) h3
    · rw [← h4, jacL_erase qs hm, legV hps (h2 p hm), es, Int.mul_left_comm (s2N d ^ e), ← Int.mul_assoc, ← Int.mul_assoc, ← Int.mul_assoc]
abbrev l259 (n : Int) (x2 x3 x4 x5 x6 : Option Value) : mj_Ls := [some (.ref 1412), some (.int (jI n)), x2, x3, x4, x5, x6]
/-- FormHouseModel.kronecker(I)I; cuts at [20, 23, 30, 34, 36, 40, 49, 53, 54, 55, 61, 66, 72, 82, 85, 94, 103, 111, 120] -/
def cl_259_2 : List mj_E := (86, false, .lload 5, 2, 0, 0, 0, 0, 0) ::
  (88, false, .lrem, 1, 0, 0, 0, 0, 0) ::
  (89, false, .lconst 0, 1, 0, 0, 0, 0, jL 0) ::
  (90, false, .lcmp, 1, 0, 0, 0, 0, 0) ::
  (91, false, .ifCond .ne 20, 3, 64, 0, 0, 0, 0) ::
  (94, true, .iload_n 2, 1, 0, 0, 0, 0, 0) ::
  (95, false, .aload_n 0, 1, 0, 0, 0, 0, 0) ::
  (96, false, .lload 5, 2, 0, 0, 0, 0, 0) ::
  (98, false, .invokevirtual 444, 3, 260, 1, 17, 0, 0) ::
  (101, false, .imul, 1, 0, 0, 0, 0, 0) ::
  (102, false, .istore_n 2, 1, 0, 0, 0, 0, 0) ::
  (103, true, .lload_n 3, 1, 0, 0, 0, 0, 0) ::
  (104, false, .lload 5, 2, 0, 0, 0, 0, 0) ::
  (106, false, .ldiv, 1, 0, 0, 0, 0, 0) ::
  (107, false, .lstore_n 3, 1, 0, 0, 0, 0, 0) ::
  (108, false, .goto (-23), 3, 47, 0, 0, 0, 0) ::
  (111, true, .lload 5, 2, 0, 0, 0, 0, 0) ::
  (113, false, .lconst 1, 1, 0, 0, 0, 0, jL 1) ::
  (114, false, .ladd, 1, 0, 0, 0, 0, 0) ::
  (115, false, .lstore 5, 2, 0, 0, 0, 0, 0) ::
  (117, false, .goto (-51), 3, 35, 0, 0, 0, 0) ::
  (120, true, .iload_n 2, 1, 0, 0, 0, 0, 0) ::
  (121, false, .ireturn, 1, 0, 0, 0, 0, 0) ::
  []
def cl_259_1 : List mj_E := (46, false, .ifCond .ge 7, 3, 27, 0, 0, 0, 0) ::
  (49, true, .iconst (-1), 1, 0, 0, 0, jI (-1), 0) ::
  (50, false, .goto 4, 3, 28, 0, 0, 0, 0) ::
  (53, true, .iconst 1, 1, 0, 0, 0, jI 1, 0) ::
  (54, true, .istore_n 2, 1, 0, 0, 0, 0, 0) ::
  (55, true, .iload_n 1, 1, 0, 0, 0, 0, 0) ::
  (56, false, .i2l, 1, 0, 0, 0, 0, 0) ::
  (57, false, .invokestatic 124, 3, 196, 1, 0, 0, 0) ::
  (60, false, .lstore_n 3, 1, 0, 0, 0, 0, 0) ::
  (61, true, .ldc2_w 130, 3, 0, 0, 0, 0, jL 2) ::
  (64, false, .lstore 5, 2, 0, 0, 0, 0, 0) ::
  (66, true, .lload_n 3, 1, 0, 0, 0, 0, 0) ::
  (67, false, .lconst 1, 1, 0, 0, 0, 0, jL 1) ::
  (68, false, .lcmp, 1, 0, 0, 0, 0, 0) ::
  (69, false, .ifCond .le 51, 3, 69, 0, 0, 0, 0) ::
  (72, true, .lload 5, 2, 0, 0, 0, 0, 0) ::
  (74, false, .lload 5, 2, 0, 0, 0, 0, 0) ::
  (76, false, .lmul, 1, 0, 0, 0, 0, 0) ::
  (77, false, .lload_n 3, 1, 0, 0, 0, 0, 0) ::
  (78, false, .lcmp, 1, 0, 0, 0, 0, 0) ::
  (79, false, .ifCond .le 6, 3, 47, 0, 0, 0, 0) ::
  (82, true, .lload_n 3, 1, 0, 0, 0, 0, 0) ::
  (83, false, .lstore 5, 2, 0, 0, 0, 0, 0) ::
  (85, true, .lload_n 3, 1, 0, 0, 0, 0, 0) ::
  cl_259_2
def cl_259_0 : List mj_E := (0, false, .aload_n 0, 1, 0, 0, 0, 0, 0) ::
  (1, false, .iload_n 1, 1, 0, 0, 0, 0, 0) ::
  (2, false, .i2l, 1, 0, 0, 0, 0, 0) ::
  (3, false, .ldc2_w 440, 3, 0, 0, 0, 0, jL (-4194304)) ::
  (6, false, .ldc2_w 442, 3, 0, 0, 0, 0, jL 4194304) ::
  (9, false, .invokestatic 244, 3, 225, 3, 0, 0, 0) ::
  (12, false, .ifCond .eq 7, 3, 9, 0, 0, 0, 0) ::
  (15, false, .iconst 0, 1, 0, 0, 0, jI 0, 0) ::
  (16, false, .goto 4, 3, 10, 0, 0, 0, 0) ::
  (19, false, .iconst 1, 1, 0, 0, 0, jI 1, 0) ::
  (20, true, .putfield 120, 3, 17, 0, 0, 0, 0) ::
  (23, true, .aload_n 0, 1, 0, 0, 0, 0, 0) ::
  (24, false, .getfield 120, 3, 17, 0, 0, 0, 0) ::
  (27, false, .ifCond .gt 7, 3, 16, 0, 0, 0, 0) ::
  (30, true, .iload_n 1, 1, 0, 0, 0, 0, 0) ::
  (31, false, .ifCond .ne 5, 3, 18, 0, 0, 0, 0) ::
  (34, true, .iconst 0, 1, 0, 0, 0, jI 0, 0) ::
  (35, false, .ireturn, 1, 0, 0, 0, 0, 0) ::
  (36, true, .iload_n 1, 1, 0, 0, 0, 0, 0) ::
  (37, false, .ifCond .ge 16, 3, 27, 0, 0, 0, 0) ::
  (40, true, .aload_n 0, 1, 0, 0, 0, 0, 0) ::
  (41, false, .getfield 9, 3, 17, 1, 1, 0, 0) ::
  (44, false, .lconst 0, 1, 0, 0, 0, 0, jL 0) ::
  (45, false, .lcmp, 1, 0, 0, 0, 0, 0) ::
  cl_259_1
def cd_259 : List mj_E := cl_259_0
def cx_259 : mj_X := (1, [], [])
theorem tb_259 : mj_tab (mj_mt 259) cx_259 cd_259 mj_mh [(0, 0, 0), (0, 0, 0), (0, 0, 0), (8189, 0, 0), (8190, 0, 0), (8044, 0, 0), (0, 0, 0), (0, 0, 0), (0, 0, 0), (0, 0, 0), (7099, 0, 0), (0, 0, 0), (7099, 0, 0), (0, 0, 0), (0, 0, 0), (0, 0, 0), (0, 0, 0), (0, 0, 0), (0, 0, 0), (0, 0, 0), (0, 0, 0), (7100, 0, 0), (0, 0, 0), (0, 0, 0), (0, 0, 0), (0, 0, 0), (0, 0, 0), (0, 0, 0), (0, 0, 0), (0, 0, 0), (0, 0, 0), (6233, 0, 0), (0, 0, 0), (6218, 0, 0), (0, 0, 0), (0, 0, 0), (0, 0, 0), (0, 0, 0), (0, 0, 0), (0, 0, 0), (0, 0, 0), (0, 0, 0), (0, 0, 0), (0, 0, 0), (0, 0, 0), (0, 0, 0), (0, 0, 0), (0, 0, 0), (0, 0, 0), (0, 0, 0), (0, 0, 0), (0, 0, 0), (0, 0, 0), (0, 0, 0), (0, 0, 0), (0, 0, 0), (8191, 0, 0), (0, 0, 0), (0, 0, 0), (0, 0, 0), (0, 0, 0), (0, 0, 0), (0, 0, 0), (0, 0, 0), (0, 0, 0), (0, 0, 0), (0, 0, 0), (0, 0, 0), (0, 0, 0), (0, 0, 0), (0, 0, 0)] = true := mj_tab_f (by decide +kernel)
theorem ct_259 (G : mj_G) {h : mj_H} (L : isLam h) {d w : Int} (hw : isMw h d w) (hd : -1048576 ≤ d ∧ d ≤ 1048576) {n : Int} (hn : -2147483648 ≤ n ∧ n < 2147483648) {e : Nat} {ps : List Nat} (hps : allP ps) (hne : n ≠ 0 → n.natAbs = 2 ^ e * prodL ps) : mj_Ct G (mj_mt 259) 0 0 [.ref 1412, .int (jI n)] h (fun oc h' => ((-4194304 ≤ n ∧ n ≤ 4194304) → (n = 0 → jB 0 0 h oc h') ∧ (n ≠ 0 → jB (kro d n e ps) 0 h oc h')) ∧ (¬ (-4194304 ≤ n ∧ n ≤ 4194304) → jB 0 1 h oc h')) := by
  have en : (jI n).toInt64 = jL n := jI_L (by omega) (by omega)
  refine mj_Ct_of mj_ok tb_259 rfl rfl (Nat.le_of_ble_eq_true rfl) (fun Run hR => ?_)
  have main : ∀ (h' : mj_H), (-4194304 ≤ n ∧ n ≤ 4194304) → n ≠ 0 → hI h' 1412 0 = jI 0 → FrM iCo jF noT h h' → ∀ (x2 x3 x4 x5 x6 : Option Value), Run 36 (l259 n x2 x3 x4 x5 x6) [] h' (0, 0) := by
    intro h' hnb hn0 e0 F
    have L' := F.lay L
    have hw' := hw.M F (by omega) (by omega)
    obtain ⟨N, hN'⟩ : ∃ N, N = n.natAbs := ⟨_, rfl⟩
    have hN0 : 0 < N := by omega
    have hN1 : N ≤ 4194304 := by omega
    obtain ⟨R, hRe⟩ : ∃ R, R = kro d n e ps := ⟨_, rfl⟩
    have r120 : ∀ (rI : Int32) (x3 x4 x5 x6 : Option Value), rI = jI R → Run 120 (l259 n (some (.int rI)) x3 x4 x5 x6) [] h' (0, 0) := by
      rintro rI x3 x4 x5 x6 rfl
      refine hR 60 69 _ _ _ _ _ _ rfl ?_
      refine ⟨fun _ => ⟨fun z => absurd z hn0, fun _ => ⟨?_, e0, F⟩⟩, fun z => absurd hnb z⟩
      rw [hRe]
    have r66 : ∀ (q l p : Nat) (r : Int) (rI : Int32) (lL pL : Int64), N + 3 ≤ p + q → 0 < l → l ≤ N → 2 ≤ p → p ≤ N + 2 → (∀ q, Pr q → q ∣ l → p ≤ q) → krI d ps R l r → rI = jI r → lL = jL l → pL = jL p → Run 66 (l259 n (some (.int rI)) (some (.long lL)) none (some (.long pL)) none) [] h' (0, 0) := by
      intro q
      have out : ∀ (l p : Nat) (r : Int) (pL : Int64), l = 1 → krI d ps R l r → Run 66 (l259 n (some (.int (jI r))) (some (.long (jL l))) none (some (.long pL)) none) [] h' (0, 0) := by
        rintro l p r pL rfl hk
        refine hR 60 35 _ _ _ _ _ _ rfl ?_
        refine ⟨fun c => r120 _ _ _ _ _ (by rw [krI_one hk]), fun c => ?_⟩
        simp only [mj_lcm] at c
        simp (disch := omega) only [mj_lcm, jI_lt, jI_le, jI_eq, jL_lt, jL_le, jL_eq, jI_lt0, jI_0le, jI_0lt, jI_le0, jI_eq0, jL_eq0, jI_L, jI_add, jI_sub, jI_mul, jI_neg, jL_add, jL_sub, jL_mul, jL_neg, jL_I, jI_div, jI_mod, jL_div, jL_mod] at c
        omega
      have big : ∀ {l p : Nat}, 1 < l → (∀ q, Pr q → q ∣ l → p ≤ q) → p ≤ l := by
        intro l p hl hm
        obtain ⟨q, q1, q2⟩ := ex_pr l l (Nat.le_refl _) hl
        have h1 := hm q q1 q2
        have h2 := Nat.le_of_dvd (by omega) q2
        omega
      induction q with
      | zero =>
        rintro l p r rI lL pL hq hl0 hlN hp2 hpN hmin hk rfl rfl rfl
        refine out l p r _ ?_ hk
        rcases Nat.lt_or_ge 1 l with z | z
        · have := big z hmin
          omega
        · omega
      | succ q ih =>
        rintro l p r rI lL pL hq hl0 hlN hp2 hpN hmin hk rfl rfl rfl
        by_cases hl1 : l = 1
        · exact out l p r _ hl1 hk
        have hpl := big (by omega) hmin
        -- with a tried number whose division goes on
        have r85 : ∀ (q2 l' p' : Nat) (r' : Int) (rI : Int32) (lL pL : Int64), l' ≤ q2 → 0 < l' → l' ≤ l → p ≤ p' → p' ≤ l → (∀ q, Pr q → q ∣ l' → p' ≤ q) → krI d ps R l' r' → rI = jI r' → lL = jL l' → pL = jL p' → Run 85 (l259 n (some (.int rI)) (some (.long lL)) none (some (.long pL)) none) [] h' (0, 0) := by
          intro q2
          induction q2 with
          | zero => intro l' p' r' rI lL pL h1 h2; omega
          | succ q2 ih2 =>
            rintro l' p' r' rI lL pL h1 h2 h3 h4 h5 hmin' hk' rfl rfl rfl
            have em : jL (l' : Int) % jL (p' : Int) = jL ((l' % p' : Nat) : Int) := by
              rw [jL_mod (by omega) (by omega) (by omega) (by omega)]
              rfl
            have hml := Nat.mod_lt l' (show 0 < p' by omega)
            have r94 : p' ∣ l' → Run 94 (l259 n (some (.int (jI r'))) (some (.long (jL l'))) none (some (.long (jL p'))) none) [] h' (0, 0) := by
              intro hdv
              have hpp := pr_of_least h2 (by omega) hmin' hdv
              obtain ⟨t, ht⟩ := hdv
              have ht0 : 0 < t := by
                rcases Nat.eq_zero_or_pos t with z | z
                · rw [z, Nat.mul_zero] at ht
                  omega
                · exact z
              have h2t : 2 * t ≤ p' * t := Nat.mul_le_mul_right _ (by omega)
              have er : jL (l' : Int) / jL (p' : Int) = jL (t : Int) := by
                rw [jL_div (by omega) (by omega) (by omega) (by omega), Int.tdiv_eq_ediv_of_nonneg (by omega), ht, Int.natCast_mul, Int.mul_ediv_cancel_left _ (by omega)]
              have r103 : ∀ (rI : Int32), rI = jI (r' * syN d p') → Run 103 (l259 n (some (.int rI)) (some (.long (jL l'))) none (some (.long (jL p'))) none) [] h' (0, 0) := by
                intro rI erI
                refine hR 60 59 _ _ _ _ _ _ rfl ?_
                refine ⟨?_, ?_⟩
                · simp (disch := omega) only [mj_lcm, jI_lt, jI_le, jI_eq, jL_lt, jL_le, jL_eq, jI_lt0, jI_0le, jI_0lt, jI_le0, jI_eq0, jL_eq0, jI_L, jI_add, jI_sub, jI_mul, jI_neg, jL_add, jL_sub, jL_mul, jL_neg, jL_I, jI_div, jI_mod, jL_div, jL_mod]
                  omega
                · exact ih2 t p' (r' * syN d p') _ _ _ (by omega) ht0 (by omega) h4 h5 (fun q hq hqt => hmin' q hq (Nat.dvd_trans hqt ⟨p', by rw [ht, Nat.mul_comm]⟩)) (krI_step hps hpp ht hk') erI er rfl
              refine hR 60 53 _ _ _ _ _ _ rfl ?_
              refine ⟨L'.K 1412 rfl, jcall (ct_260 G L' hw' (by omega) hpp (by omega)) ?_⟩
              exact r103 _ (by rw [jI_mul])
            have r111 : ¬ p' ∣ l' → Run 111 (l259 n (some (.int (jI r'))) (some (.long (jL l'))) none (some (.long (jL p'))) none) [] h' (0, 0) := by
              intro hnd
              refine hR 60 64 _ _ _ _ _ _ rfl ?_
              refine ih l' (p' + 1) r' _ _ _ (by omega) h2 (by omega) (by omega) (by omega) (fun q hq hql => ?_) hk' rfl rfl (by rw [jL_add]; rfl)
              have h6 := hmin' q hq hql
              by_cases z : q = p'
              · exact absurd (z ▸ hql) hnd
              · omega
            refine hR 60 47 _ _ _ _ _ _ rfl ?_
            refine ⟨?_, ?_⟩
            · simp (disch := omega) only [mj_lcm, jI_lt, jI_le, jI_eq, jL_lt, jL_le, jL_eq, jI_lt0, jI_0le, jI_0lt, jI_le0, jI_eq0, jL_eq0, jI_L, jI_add, jI_sub, jI_mul, jI_neg, jL_add, jL_sub, jL_mul, jL_neg, jL_I, jI_div, jI_mod, jL_div, jL_mod]
              omega
            · rw [em]
              refine ⟨fun c => ?_, fun c => ?_⟩
              · simp (disch := omega) only [mj_lcm, jI_lt, jI_le, jI_eq, jL_lt, jL_le, jL_eq, jI_lt0, jI_0le, jI_0lt, jI_le0, jI_eq0, jL_eq0, jI_L, jI_add, jI_sub, jI_mul, jI_neg, jL_add, jL_sub, jL_mul, jL_neg, jL_I, jI_div, jI_mod, jL_div, jL_mod] at c
                exact r94 (Nat.dvd_of_mod_eq_zero (by omega))
              · simp (disch := omega) only [mj_lcm, jI_lt, jI_le, jI_eq, jL_lt, jL_le, jL_eq, jI_lt0, jI_0le, jI_0lt, jI_le0, jI_eq0, jL_eq0, jI_L, jI_add, jI_sub, jI_mul, jI_neg, jL_add, jL_sub, jL_mul, jL_neg, jL_I, jI_div, jI_mod, jL_div, jL_mod] at c
                refine r111 (fun z => ?_)
                have := Nat.mod_eq_zero_of_dvd z
                omega
        have r82 : l < p * p → Run 82 (l259 n (some (.int (jI r))) (some (.long (jL l))) none (some (.long (jL p))) none) [] h' (0, 0) := by
          intro hlp
          have hpl' := pr_of_sq (by omega) hmin hlp
          refine hR 60 45 _ _ _ _ _ _ rfl ?_
          refine r85 l l l r _ _ _ (Nat.le_refl _) hl0 (Nat.le_refl _) hpl (Nat.le_refl _) (fun q hq hql => ?_) hk rfl rfl rfl
          rcases hpl'.2 q hql with z | z
          · have := hq.1
            omega
          · omega
        have hpp : p * p ≤ 4194304 * 4194304 := Nat.mul_le_mul (by omega) (by omega)
        have r72 : Run 72 (l259 n (some (.int (jI r))) (some (.long (jL l))) none (some (.long (jL p))) none) [] h' (0, 0) := by
          have e9 : jL (p : Int) * jL (p : Int) = jL ((p * p : Nat) : Int) := by rw [jL_mul, Int.natCast_mul]
          refine hR 60 39 _ _ _ _ _ _ rfl ?_
          refine ⟨fun c => ?_, fun c => ?_⟩
          · exact r85 l l p r _ _ _ (Nat.le_refl _) hl0 (Nat.le_refl _) (Nat.le_refl _) hpl hmin hk rfl rfl rfl
          · simp only [mj_lcm] at c
            rw [e9] at c
            simp (disch := omega) only [mj_lcm, jI_lt, jI_le, jI_eq, jL_lt, jL_le, jL_eq, jI_lt0, jI_0le, jI_0lt, jI_le0, jI_eq0, jL_eq0, jI_L, jI_add, jI_sub, jI_mul, jI_neg, jL_add, jL_sub, jL_mul, jL_neg, jL_I, jI_div, jI_mod, jL_div, jL_mod] at c
            exact r82 (by omega)
        refine hR 60 35 _ _ _ _ _ _ rfl ?_
        refine ⟨fun c => ?_, fun c => r72⟩
        simp only [mj_lcm] at c
        simp (disch := omega) only [mj_lcm, jI_lt, jI_le, jI_eq, jL_lt, jL_le, jL_eq, jI_lt0, jI_0le, jI_0lt, jI_le0, jI_eq0, jL_eq0, jI_L, jI_add, jI_sub, jI_mul, jI_neg, jL_add, jL_sub, jL_mul, jL_neg, jL_I, jI_div, jI_mod, jL_div, jL_mod] at c
        omega
    have r61 : ∀ (r : Int) (lL : Int64) (x5 x6 : Option Value), krI d ps R N r → lL = jL N → Run 61 (l259 n (some (.int (jI r))) (some (.long lL)) none x5 x6) [] h' (0, 0) := by
      rintro r lL x5 x6 hk rfl
      refine hR 60 33 _ _ _ _ _ _ rfl ?_
      exact r66 (N + 1) N 2 r _ _ _ (by omega) hN0 (Nat.le_refl _) (by omega) (by omega) (fun q hq _ => hq.1) hk rfl rfl rfl
    have r54 : ∀ (r : Int) (x2 x3 x4 x5 x6 : Option Value), r = (if n < 0 ∧ d < 0 then -1 else 1) → Run 54 (l259 n x2 x3 x4 x5 x6) [.int (jI r)] h' (0, 0) := by
      intro r x2 x3 x4 x5 x6 hr
      have hk : krI d ps R N r := ⟨e, ps, hps, fun q hq => hq, by rw [hN']; exact hne hn0, by rw [hRe, hr]; rfl⟩
      have r55 : Run 55 (l259 n (some (.int (jI r))) x3 x4 x5 x6) [] h' (0, 0) := by
        have c196 := ct_196 G (x := n) (by omega) (by omega) h'
        rw [← en] at c196
        refine hR 60 29 _ _ _ _ _ _ rfl ?_
        refine jcall c196 ?_
        exact r61 r _ _ _ hk (by rw [hN'])
      refine hR 60 28 _ _ _ _ _ _ rfl ?_
      exact r55
    intro x2 x3 x4 x5 x6
    have r53 : ¬ (n < 0 ∧ d < 0) → Run 53 (l259 n x2 x3 x4 x5 x6) [] h' (0, 0) := by
      intro z
      refine hR 60 27 _ _ _ _ _ _ rfl ?_
      exact r54 1 _ _ _ _ _ (by rw [if_neg z])
    have r40 : n < 0 → Run 40 (l259 n x2 x3 x4 x5 x6) [] h' (0, 0) := by
      intro hn1
      have r49 : d < 0 → Run 49 (l259 n x2 x3 x4 x5 x6) [] h' (0, 0) := by
        intro hd1
        refine hR 60 25 _ _ _ _ _ _ rfl ?_
        exact r54 (-1) _ _ _ _ _ (by rw [if_pos ⟨hn1, hd1⟩])
      refine hR 60 20 _ _ _ _ _ _ rfl ?_
      refine ⟨L'.K 1412 rfl, fun c => ?_, fun c => ?_⟩
      · simp only [mj_lcm, hw'.1] at c
        simp (disch := omega) only [mj_lcm, jI_lt, jI_le, jI_eq, jL_lt, jL_le, jL_eq, jI_lt0, jI_0le, jI_0lt, jI_le0, jI_eq0, jL_eq0, jI_L, jI_add, jI_sub, jI_mul, jI_neg, jL_add, jL_sub, jL_mul, jL_neg, jL_I, jI_div, jI_mod, jL_div, jL_mod] at c
        exact r53 (by omega)
      · simp only [mj_lcm, hw'.1] at c
        simp (disch := omega) only [mj_lcm, jI_lt, jI_le, jI_eq, jL_lt, jL_le, jL_eq, jI_lt0, jI_0le, jI_0lt, jI_le0, jI_eq0, jL_eq0, jI_L, jI_add, jI_sub, jI_mul, jI_neg, jL_add, jL_sub, jL_mul, jL_neg, jL_I, jI_div, jI_mod, jL_div, jL_mod] at c
        exact r49 (by omega)
    refine hR 60 18 _ _ _ _ _ _ rfl ?_
    refine ⟨fun c => ?_, fun c => ?_⟩
    · simp (disch := omega) only [mj_lcm, jI_lt, jI_le, jI_eq, jL_lt, jL_le, jL_eq, jI_lt0, jI_0le, jI_0lt, jI_le0, jI_eq0, jL_eq0, jI_L, jI_add, jI_sub, jI_mul, jI_neg, jL_add, jL_sub, jL_mul, jL_neg, jL_I, jI_div, jI_mod, jL_div, jL_mod] at c
      exact r53 (by omega)
    · simp (disch := omega) only [mj_lcm, jI_lt, jI_le, jI_eq, jL_lt, jL_le, jL_eq, jI_lt0, jI_0le, jI_0lt, jI_le0, jI_eq0, jL_eq0, jI_L, jI_add, jI_sub, jI_mul, jI_neg, jL_add, jL_sub, jL_mul, jL_neg, jL_I, jI_div, jI_mod, jL_div, jL_mod] at c
      exact r40 (by omega)
  have r23 : ∀ (k : Int) (h' : mj_H) (x2 x3 x4 x5 x6 : Option Value), ((k = 0 ∧ (-4194304 ≤ n ∧ n ≤ 4194304)) ∨ (k = 1 ∧ ¬ (-4194304 ≤ n ∧ n ≤ 4194304))) → hI h' 1412 0 = jI k → FrM iCo jF noT h h' → Run 23 (l259 n x2 x3 x4 x5 x6) [] h' (0, 0) := by
    rintro k h' x2 x3 x4 x5 x6 (⟨rfl, z⟩ | ⟨rfl, z⟩) e0 F
    · have r34 : n = 0 → Run 34 (l259 n x2 x3 x4 x5 x6) [] h' (0, 0) := by
        intro n0
        refine hR 60 16 _ _ _ _ _ _ rfl ?_
        exact ⟨fun _ => ⟨fun _ => ⟨rfl, e0, F⟩, fun q => absurd n0 q⟩, fun q => absurd z q⟩
      have r30 : Run 30 (l259 n x2 x3 x4 x5 x6) [] h' (0, 0) := by
        refine hR 60 14 _ _ _ _ _ _ rfl ?_
        refine ⟨fun c => ?_, fun c => ?_⟩
        · simp (disch := omega) only [mj_lcm, jI_lt, jI_le, jI_eq, jL_lt, jL_le, jL_eq, jI_lt0, jI_0le, jI_0lt, jI_le0, jI_eq0, jL_eq0, jI_L, jI_add, jI_sub, jI_mul, jI_neg, jL_add, jL_sub, jL_mul, jL_neg, jL_I, jI_div, jI_mod, jL_div, jL_mod] at c
          exact r34 c
        · simp (disch := omega) only [mj_lcm, jI_lt, jI_le, jI_eq, jL_lt, jL_le, jL_eq, jI_lt0, jI_0le, jI_0lt, jI_le0, jI_eq0, jL_eq0, jI_L, jI_add, jI_sub, jI_mul, jI_neg, jL_add, jL_sub, jL_mul, jL_neg, jL_I, jI_div, jI_mod, jL_div, jL_mod] at c
          exact main h' z c e0 F _ _ _ _ _
      refine hR 60 11 _ _ _ _ _ _ rfl ?_
      refine ⟨(F.lay L).K 1412 rfl, ?_⟩
      rw [e0]
      exact ⟨fun c => absurd c (by decide), fun c => r30⟩
    · have r34 : Run 34 (l259 n x2 x3 x4 x5 x6) [] h' (0, 0) := by
        refine hR 60 16 _ _ _ _ _ _ rfl ?_
        exact ⟨fun q => absurd q z, fun _ => ⟨rfl, e0, F⟩⟩
      refine hR 60 11 _ _ _ _ _ _ rfl ?_
      refine ⟨(F.lay L).K 1412 rfl, ?_⟩
      rw [e0]
      exact ⟨fun c => r34, fun c => absurd (by decide) c⟩
  have r20 : ∀ (k : Int) (x2 x3 x4 x5 x6 : Option Value), ((k = 0 ∧ (-4194304 ≤ n ∧ n ≤ 4194304)) ∨ (k = 1 ∧ ¬ (-4194304 ≤ n ∧ n ≤ 4194304))) → Run 20 (l259 n x2 x3 x4 x5 x6) [.int (jI k), .ref 1412] h (0, 0) := by
    intro k x2 x3 x4 x5 x6 z
    refine hR 60 10 _ _ _ _ _ _ rfl ?_
    refine ⟨L.K 1412 rfl, ?_⟩
    exact r23 k _ _ _ _ _ _ z (sI_at _ _ _ _) (FrM.code h _)
  have c225 := ct_225 G (v := n) (a := -4194304) (b := 4194304) (by omega) (by omega) (by omega) (by omega) (by omega) (by omega) h
  rw [← en] at c225
  refine hR 60 0 _ _ _ _ _ _ rfl ?_
  refine jcall c225 ?_
  by_cases z : -4194304 ≤ n ∧ n ≤ 4194304
  · rw [if_pos z]
    exact ⟨fun c => absurd c (by decide), fun c => r20 0 _ _ _ _ _ (Or.inl ⟨rfl, z⟩)⟩
  · rw [if_neg z]
    exact ⟨fun c => r20 1 _ _ _ _ _ (Or.inr ⟨rfl, z⟩), fun c => absurd rfl c⟩
