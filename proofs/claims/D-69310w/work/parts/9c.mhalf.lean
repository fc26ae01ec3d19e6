/-! the model: halves and products -/
theorem jI_or {a b : Int} {k : Nat} (hk : k < 32) (hb : 0 ≤ b) (hb' : b < 2 ^ k) : jI (a * 2 ^ k) ||| jI b = jI (a * 2 ^ k + b) := by
  rw [← jI_add]
  apply Int32.toBitVec_inj.mp
  rw [Int32.toBitVec_or, Int32.toBitVec_add]
  symm
  apply BitVec.add_eq_or_of_and_eq_zero
  rw [← jI_shl0 hk, Int32.toBitVec_shiftLeft, jI_sc k hk]
  apply BitVec.eq_of_getLsbD_eq
  intro i hi
  rw [BitVec.getLsbD_and]
  show (((BitVec.ofInt 32 a) <<< (BitVec.ofNat 32 k).toNat).getLsbD i && (jI b).toBitVec.getLsbD i) = _
  rw [BitVec.toNat_ofNat, Nat.mod_eq_of_lt (by omega), BitVec.getLsbD_shiftLeft, BitVec.getLsbD_zero]
  by_cases hik : i < k
  · simp [hik]
  · have hz : (jI b).toBitVec.getLsbD i = false := by
      show (jI b).toBitVec.toNat.testBit i = false
      rw [jI_tn]
      have h1 : (2 : Int) ^ k = ((2 ^ k : Nat) : Int) := by rw [Int.natCast_pow]; rfl
      have h2 : 2 ^ k ≤ 2 ^ i := Nat.pow_le_pow_right (by decide) (by omega)
      have h3 : 2 ^ k ≤ 2 ^ 31 := Nat.pow_le_pow_right (by decide) (by omega)
      apply Nat.testBit_lt_two_pow
      rw [h1] at hb'
      generalize 2 ^ k = q at h1 h2 h3 hb'
      omega
    rw [hz, Bool.and_false]
theorem half_dgt (v : Int) (k : Nat) : dgt (v / 2) k = v / pB (k + 1) % 2 * 32768 + dgt v k / 2 := by
  have h1 : v / 2 / pB k = v / pB k / 2 := by
    rw [Int.ediv_ediv_of_nonneg (by decide), Int.ediv_ediv_of_nonneg (Int.le_of_lt (pB_pos k)), Int.mul_comm]
  have h2 := q_next v k
  have h3 := dgt_rng v k
  have h4 : dgt (v / 2) k = v / pB k / 2 % 65536 := by rw [← h1]; rfl
  rw [h4, h2]
  generalize v / pB (k + 1) = q
  generalize dgt v k = u at h3
  omega
/-- FormHouseModel.halve(I)V; cuts at [13, 14, 18, 22, 30, 45, 50] -/
def cl_221_1 : List mj_E := (39, false, .iconst 1, 1, 0, 0, 0, jI 1, 0) ::
  (40, false, .ishr, 1, 0, 0, 0, 0, 0) ::
  (41, false, .ior, 1, 0, 0, 0, 0, 0) ::
  (42, false, .invokevirtual 250, 3, 214, 3, 17, 0, 0) ::
  (45, true, .iload 4, 2, 0, 0, 0, 0, 0) ::
  (47, false, .iconst 1, 1, 0, 0, 0, jI 1, 0) ::
  (48, false, .iand, 1, 0, 0, 0, 0, 0) ::
  (49, false, .istore_n 2, 1, 0, 0, 0, 0, 0) ::
  (50, true, .iinc 3 (-1), 3, 0, 0, 0, jI (-1), 0) ::
  (53, false, .goto (-35), 3, 10, 0, 0, 0, 0) ::
  (56, false, .return_, 1, 0, 0, 0, 0, 0) ::
  []
def cl_221_0 : List mj_E := (0, false, .aload_n 0, 1, 0, 0, 0, 0, 0) ::
  (1, false, .iload_n 1, 1, 0, 0, 0, 0, 0) ::
  (2, false, .invokevirtual 257, 3, 222, 1, 17, 0, 0) ::
  (5, false, .ifCond .eq 7, 3, 6, 0, 0, 0, 0) ::
  (8, false, .iconst 1, 1, 0, 0, 0, jI 1, 0) ::
  (9, false, .goto 4, 3, 7, 0, 0, 0, 0) ::
  (12, false, .iconst 0, 1, 0, 0, 0, jI 0, 0) ::
  (13, true, .istore_n 2, 1, 0, 0, 0, 0, 0) ::
  (14, true, .sipush 1099, 3, 0, 0, 0, jI 1099, 0) ::
  (17, false, .istore_n 3, 1, 0, 0, 0, 0, 0) ::
  (18, true, .iload_n 3, 1, 0, 0, 0, 0, 0) ::
  (19, false, .ifCond .lt 37, 3, 34, 0, 0, 0, 0) ::
  (22, true, .aload_n 0, 1, 0, 0, 0, 0, 0) ::
  (23, false, .iload_n 1, 1, 0, 0, 0, 0, 0) ::
  (24, false, .iload_n 3, 1, 0, 0, 0, 0, 0) ::
  (25, false, .invokevirtual 254, 3, 216, 2, 17, 0, 0) ::
  (28, false, .istore 4, 2, 0, 0, 0, 0, 0) ::
  (30, true, .aload_n 0, 1, 0, 0, 0, 0, 0) ::
  (31, false, .iload_n 1, 1, 0, 0, 0, 0, 0) ::
  (32, false, .iload_n 3, 1, 0, 0, 0, 0, 0) ::
  (33, false, .iload_n 2, 1, 0, 0, 0, 0, 0) ::
  (34, false, .bipush 15, 2, 0, 0, 0, jI 15, 0) ::
  (36, false, .ishl, 1, 0, 0, 0, 0, 0) ::
  (37, false, .iload 4, 2, 0, 0, 0, 0, 0) ::
  cl_221_1
def cd_221 : List mj_E := cl_221_0
def cx_221 : mj_X := (0, [], [])
theorem tb_221 : mj_tab (mj_mt 221) cx_221 cd_221 mj_mh [(0, 0, 0), (0, 0, 0), (7095, 0, 0), (0, 0, 0), (0, 0, 0), (0, 0, 0), (0, 0, 0), (0, 0, 0), (0, 0, 0), (0, 0, 0), (0, 0, 0), (0, 0, 0), (0, 0, 0), (0, 0, 0), (0, 0, 0), (7071, 0, 0), (0, 0, 0), (0, 0, 0), (0, 0, 0), (0, 0, 0), (0, 0, 0), (0, 0, 0), (0, 0, 0), (0, 0, 0), (0, 0, 0), (0, 0, 0), (0, 0, 0), (7062, 0, 0), (0, 0, 0), (0, 0, 0), (0, 0, 0), (0, 0, 0), (0, 0, 0), (0, 0, 0), (0, 0, 0)] = true := mj_tab_f (by decide +kernel)
theorem ct_221 (G : mj_G) {h : mj_H} (hm : isMd h) {i : Nat} (hi : i < 15) {v : Int} (hv : isN h i v) (hr : inR v) : mj_Ct G (mj_mt 221) 0 0 [.ref 1412, .int (jI i)] h (fun o h' => o = .returned none ∧ isN h' i (v / 2) ∧ FrN i h h') := by
  refine mj_Ct_of mj_ok tb_221 rfl rfl (Nat.le_of_ble_eq_true rfl) (fun Run hR => ?_)
  have loop : ∀ (m : Nat) (aI kI : Int32) (h' : mj_H) (x4 : Option Value), m ≤ 1100 → FrN i h h' → (∀ l, l < m → hI h' 1439 (1100 * i + l) = jI (dgt v l)) → (∀ l, m ≤ l → l < 1100 → hI h' 1439 (1100 * i + l) = jI (dgt (v / 2) l)) → aI = jI (v / pB m % 2) → kI = jI ((m : Int) - 1) → Run 18 [some (.ref 1412), some (.int (jI i)), some (.int aI), some (.int kI), x4] [] h' (0, 0) := by
    intro m
    induction m with
    | zero =>
      rintro aI kI h' x4 hm0 F hlo hhi rfl rfl
      refine hR 60 10 _ _ _ _ _ _ rfl ?_
      refine ⟨fun c => ⟨rfl, fun k hk => hhi k (by omega) hk, F⟩, fun c => ?_⟩
      simp (disch := omega) only [mj_lcm, jI_lt, jI_le, jI_eq, jL_lt, jL_le, jL_eq, jI_lt0, jI_0le, jI_0lt, jI_le0, jI_eq0, jL_eq0, jI_L, jI_add, jI_sub, jI_mul, jI_neg, jL_add, jL_sub, jL_mul, jL_neg, jL_I, jI_div, jI_mod, jL_div, jL_mod] at c
      omega
    | succ m ih =>
      rintro aI kI h' x4 hm0 F hlo hhi rfl rfl
      have hm' := F.md hm
      have ek : jI (((m + 1 : Nat) : Int) - 1) = jI (m : Int) := by
        congr 1
        omega
      rw [ek]
      have hd := hlo m (by omega)
      have hrg := dgt_rng v m
      have hbit : v / pB m % 2 = dgt v m % 2 := by
        rw [q_next v m]
        generalize v / pB (m + 1) = q
        generalize dgt v m = u
        omega
      have hbit2 : 0 ≤ v / pB (m + 1) % 2 ∧ v / pB (m + 1) % 2 < 2 := ⟨Int.emod_nonneg _ (by decide), Int.emod_lt_of_pos _ (by decide)⟩
      have r50 : ∀ (h4 : mj_H) (aI : Int32) (x4 : Option Value), FrN i h h4 → (∀ l, l < m → hI h4 1439 (1100 * i + l) = jI (dgt v l)) → (∀ l, m ≤ l → l < 1100 → hI h4 1439 (1100 * i + l) = jI (dgt (v / 2) l)) → aI = jI (v / pB m % 2) → Run 50 [some (.ref 1412), some (.int (jI i)), some (.int aI), some (.int (jI m)), x4] [] h4 (0, 0) := by
        intro h4 aI x4 F4 a1 a2 e
        refine hR 60 32 _ _ _ _ _ _ rfl ?_
        refine ih _ _ h4 _ (by omega) F4 a1 a2 e ?_
        rw [jI_add]
        rfl
      have r45 : ∀ (h4 : mj_H) (aI : Int32), FrN i h h4 → (∀ l, l < m → hI h4 1439 (1100 * i + l) = jI (dgt v l)) → (∀ l, m ≤ l → l < 1100 → hI h4 1439 (1100 * i + l) = jI (dgt (v / 2) l)) → Run 45 [some (.ref 1412), some (.int (jI i)), some (.int aI), some (.int (jI m)), some (.int (jI (dgt v m)))] [] h4 (0, 0) := by
        intro h4 aI F4 a1 a2
        refine hR 60 28 _ _ _ _ _ _ rfl ?_
        refine r50 h4 _ _ F4 a1 a2 ?_
        rw [hbit]
        exact jI_mask (k := 1) (by decide) rfl
      have r30 : ∀ vI : Int32, vI = jI (dgt v m) → Run 30 [some (.ref 1412), some (.int (jI i)), some (.int (jI (v / pB (m + 1) % 2))), some (.int (jI m)), some (.int vI)] [] h' (0, 0) := by
        rintro vI rfl
        have e : (jI (v / pB (m + 1) % 2) <<< (jI 15 &&& 31)) ||| (jI (dgt v m) >>> (jI 1 &&& 31)) = jI (dgt (v / 2) m) := by
          rw [jI_shl (K := 15) 15 (by decide) rfl, jI_shr (K := 1) 1 (by decide) rfl (by omega) (by omega), jI_or (by decide) (by omega) (by omega), half_dgt]
          rfl
        refine hR 60 17 _ _ _ _ _ _ rfl ?_
        refine ⟨hm'.1, jcallV (ct_214 G hm' hi (by omega) _) ?_⟩
        rw [e]
        refine r45 _ _ ⟨F.1.sI (by simp) _ _, fun c hc => (sI_k _ _ (by omega) _).trans (F.2 c hc)⟩ (fun l hl => (sI_k _ _ (by omega) _).trans (hlo l (by omega))) (fun l h1 h2 => ?_)
        by_cases z : l = m
        · rw [z]
          exact sI_at _ _ _ _
        · exact (sI_k _ _ (by omega) _).trans (hhi l (by omega) h2)
      have r22 : ∀ x4 : Option Value, Run 22 [some (.ref 1412), some (.int (jI i)), some (.int (jI (v / pB (m + 1) % 2))), some (.int (jI m)), x4] [] h' (0, 0) := by
        intro x4
        refine hR 60 12 _ _ _ _ _ _ rfl ?_
        refine ⟨hm'.1, jcall (ct_216 G hm' hi (by omega)) ?_⟩
        exact r30 _ hd
      refine hR 60 10 _ _ _ _ _ _ rfl ?_
      refine ⟨fun c => ?_, fun c => r22 _⟩
      simp (disch := omega) only [mj_lcm, jI_lt, jI_le, jI_eq, jL_lt, jL_le, jL_eq, jI_lt0, jI_0le, jI_0lt, jI_le0, jI_eq0, jL_eq0, jI_L, jI_add, jI_sub, jI_mul, jI_neg, jL_add, jL_sub, jL_mul, jL_neg, jL_I, jI_div, jI_mod, jL_div, jL_mod] at c
      omega
  have r14 : ∀ (aI : Int32) (x3 x4 : Option Value), aI = jI (v / pB 1100 % 2) → Run 14 [some (.ref 1412), some (.int (jI i)), some (.int aI), x3, x4] [] h (0, 0) := by
    intro aI x3 x4 e
    refine hR 60 8 _ _ _ _ _ _ rfl ?_
    exact loop 1100 _ _ h _ (by omega) ⟨FrI.refl _ _, fun _ _ => rfl⟩ (fun l hl => hv l hl) (fun l h1 h2 => by omega) e rfl
  have r13 : ∀ (aI : Int32) (x2 x3 x4 : Option Value), aI = jI (v / pB 1100 % 2) → Run 13 [some (.ref 1412), some (.int (jI i)), x2, x3, x4] [.int aI] h (0, 0) := by
    intro aI x2 x3 x4 e
    refine hR 60 7 _ _ _ _ _ _ rfl ?_
    exact r14 _ _ _ e
  have hq : v / pB 1100 = if v < 0 then -1 else 0 := by
    have hp := pB_pos 1099
    have e : pB 1100 = pB 1099 * 65536 := pB_s 1099
    have hp2 : 0 < pB 1100 := pB_pos 1100
    obtain ⟨r1, r2⟩ := hr
    generalize pB 1099 = p at hp e r1 r2
    generalize pB 1100 = P at hp2 e ⊢
    by_cases z : v < 0
    · rw [if_pos z]
      have a1 := Int.ediv_neg_of_neg_of_pos z hp2
      have a2 : -1 ≤ v / P := Int.le_ediv_of_mul_le hp2 (by omega)
      omega
    · rw [if_neg z]
      exact Int.ediv_eq_zero_of_lt (by omega) (by omega)
  refine hR 60 0 _ _ _ _ _ _ rfl ?_
  refine ⟨hm.1, jcall (ct_222' G hm hi hv hr) ?_⟩
  by_cases z : v < 0
  · rw [if_pos z] at hq ⊢
    exact ⟨fun c => absurd c (by decide), fun c => r13 _ _ _ _ (by rw [hq]; rfl)⟩
  · rw [if_neg z] at hq ⊢
    exact ⟨fun c => r13 _ _ _ _ (by rw [hq]; rfl), fun c => absurd rfl c⟩
/-- sums of products of digits -/
def cvS (a b : Int) (k : Nat) : Nat → Int
  | 0 => 0
  | x + 1 => cvS a b k x + dgt a x * dgt b (k - x)
def mcR (a b : Int) : Nat → Int
  | 0 => 0
  | k + 1 => (mcR a b k + cvS a b k (k + 1)) / 65536
theorem dgt_sq {a b : Int} {x y : Nat} : 0 ≤ dgt a x * dgt b y ∧ dgt a x * dgt b y ≤ 4294836225 := by
  have h1 := dgt_rng a x
  have h2 := dgt_rng b y
  exact ⟨Int.mul_nonneg h1.1 h2.1, Int.le_trans (Int.mul_le_mul (c := 65535) (d := 65535) (by omega) (by omega) h2.1 (by decide)) (by decide)⟩
theorem cvS_bd (a b : Int) (k : Nat) : ∀ x, 0 ≤ cvS a b k x ∧ cvS a b k x ≤ 4294836225 * x
  | 0 => by
    show 0 ≤ (0 : Int) ∧ (0 : Int) ≤ 4294836225 * (0 : Int)
    decide
  | x + 1 => by
    have h1 := cvS_bd a b k x
    have h2 := dgt_sq (a := a) (b := b) (x := x) (y := k - x)
    show 0 ≤ cvS a b k x + dgt a x * dgt b (k - x) ∧ cvS a b k x + dgt a x * dgt b (k - x) ≤ 4294836225 * ((x + 1 : Nat) : Int)
    omega
theorem mcR_bd (a b : Int) : ∀ k, k ≤ 1100 → 0 ≤ mcR a b k ∧ mcR a b k ≤ 1000000000
  | 0, _ => by
    show 0 ≤ (0 : Int) ∧ (0 : Int) ≤ 1000000000
    decide
  | k + 1, hk => by
    have h1 := mcR_bd a b k (by omega)
    have h2 := cvS_bd a b k (k + 1)
    show 0 ≤ (mcR a b k + cvS a b k (k + 1)) / 65536 ∧ (mcR a b k + cvS a b k (k + 1)) / 65536 ≤ 1000000000
    omega
theorem pB_add (x y : Nat) : pB (x + y) = pB x * pB y := Int.pow_add 65536 x y
/-- the products of digits below place k, the first row up to x -/
def spS (a b : Int) (k : Nat) : Nat → Int
  | 0 => 0
  | x + 1 => spS a b k x + dgt a x * pB x * (b % pB (k - x))
theorem spS_step (a b : Int) (k : Nat) : ∀ x, x ≤ k → spS a b (k + 1) x = spS a b k x + pB k * cvS a b k x
  | 0, _ => by
    show (0 : Int) = 0 + pB k * 0
    omega
  | x + 1, hx => by
    have ih := spS_step a b k x (by omega)
    show spS a b (k + 1) x + dgt a x * pB x * (b % pB (k + 1 - x)) = spS a b k x + dgt a x * pB x * (b % pB (k - x)) + pB k * (cvS a b k x + dgt a x * dgt b (k - x))
    rw [ih, show k + 1 - x = (k - x) + 1 by omega, r_next]
    have e : pB k = pB x * pB (k - x) := by rw [← pB_add, show x + (k - x) = k by omega]
    rw [e]
    generalize b % pB (k - x) = r
    grind
theorem spS_full (a b : Int) (k : Nat) : spS a b (k + 1) (k + 1) = spS a b k k + pB k * cvS a b k (k + 1) := by
  show spS a b (k + 1) k + dgt a k * pB k * (b % pB (k + 1 - k)) = spS a b k k + pB k * (cvS a b k k + dgt a k * dgt b (k - k))
  rw [spS_step a b k k (Nat.le_refl _), show k + 1 - k = 0 + 1 by omega, r_next, pB_0, Int.emod_one, Nat.sub_self]
  grind
theorem spS_mc (a b : Int) : ∀ k, spS a b k k / pB k = mcR a b k
  | 0 => rfl
  | k + 1 => by
    have ih := spS_mc a b k
    have hp := pB_pos k
    show _ = (mcR a b k + cvS a b k (k + 1)) / 65536
    rw [spS_full, pB_s, ← Int.ediv_ediv_of_nonneg (Int.le_of_lt hp), Int.add_mul_ediv_left _ _ (by omega), ih]
theorem sp_mod (a b : Int) (k : Nat) : ∀ x, x ≤ k → ∃ R, b * (a % pB x) = spS a b k x + pB k * R
  | 0, _ => ⟨0, by
    rw [pB_0, Int.emod_one]
    show b * 0 = 0 + pB k * 0
    omega⟩
  | x + 1, hx => by
    obtain ⟨R, hR⟩ := sp_mod a b k x (by omega)
    have e : pB k = pB x * pB (k - x) := by rw [← pB_add, show x + (k - x) = k by omega]
    have h1 := Int.emod_add_mul_ediv b (pB (k - x))
    refine ⟨R + dgt a x * (b / pB (k - x)), ?_⟩
    rw [r_next]
    show b * (a % pB x + pB x * dgt a x) = spS a b k x + dgt a x * pB x * (b % pB (k - x)) + pB k * (R + dgt a x * (b / pB (k - x)))
    rw [Int.mul_add, hR]
    generalize b % pB (k - x) = r at h1 ⊢
    generalize b / pB (k - x) = q at h1 ⊢
    rw [Int.mul_add (pB k), e, ← h1]
    grind
theorem mul_dgt (a b : Int) (k : Nat) : dgt (a * b) k = (mcR a b k + cvS a b k (k + 1)) % 65536 := by
  obtain ⟨R, hR⟩ := sp_mod a b (k + 1) (k + 1) (Nat.le_refl _)
  have hp := pB_pos k
  have h1 := Int.emod_add_mul_ediv a (pB (k + 1))
  have e : a * b = spS a b k k + pB k * (cvS a b k (k + 1) + 65536 * (R + (a / pB (k + 1)) * b)) := by
    have e1 : a * b = b * (a % pB (k + 1)) + pB (k + 1) * ((a / pB (k + 1)) * b) := by
      generalize a % pB (k + 1) = r at *
      generalize a / pB (k + 1) = q at *
      rw [← h1]
      grind
    rw [e1, hR, spS_full, pB_s]
    grind
  unfold dgt
  rw [e, Int.add_mul_ediv_left _ _ (by omega), spS_mc, ← Int.add_assoc, Int.add_mul_emod_self_left]
abbrev l218 (t i j n m : Int) (c : Int64) (k : Int32) (v : Int64) (x11 : Option Value) : mj_Ls := [some (.ref 1412), some (.int (jI t)), some (.int (jI i)), some (.int (jI j)), some (.int (jI n)), some (.int (jI m)), some (.long c), none, some (.int k), some (.long v), none, x11]
/-- FormHouseModel.multiply(III)V; cuts at [7, 14, 17, 20, 28, 32, 50, 52, 59, 66, 91, 97, 111, 118] -/
def cl_218_2 : List mj_E := (88, false, .ladd, 1, 0, 0, 0, 0, 0) ::
  (89, false, .lstore 9, 2, 0, 0, 0, 0, 0) ::
  (91, true, .iinc 11 1, 3, 0, 0, 0, jI 1, 0) ::
  (94, false, .goto (-42), 3, 28, 0, 0, 0, 0) ::
  (97, true, .aload_n 0, 1, 0, 0, 0, 0, 0) ::
  (98, false, .iload_n 1, 1, 0, 0, 0, 0, 0) ::
  (99, false, .iload 8, 2, 0, 0, 0, 0, 0) ::
  (101, false, .lload 9, 2, 0, 0, 0, 0, 0) ::
  (103, false, .ldc2_w 248, 3, 0, 0, 0, 0, jL 65535) ::
  (106, false, .land, 1, 0, 0, 0, 0, 0) ::
  (107, false, .l2i, 1, 0, 0, 0, 0, 0) ::
  (108, false, .invokevirtual 250, 3, 214, 3, 17, 0, 0) ::
  (111, true, .lload 9, 2, 0, 0, 0, 0, 0) ::
  (113, false, .bipush 16, 2, 0, 0, 0, jI 16, 0) ::
  (115, false, .lshr, 1, 0, 0, 0, 0, 0) ::
  (116, false, .lstore 6, 2, 0, 0, 0, 0, 0) ::
  (118, true, .iinc 8 1, 3, 0, 0, 0, jI 1, 0) ::
  (121, false, .goto (-101), 3, 12, 0, 0, 0, 0) ::
  (124, false, .return_, 1, 0, 0, 0, 0, 0) ::
  []
def cl_218_1 : List mj_E := (47, false, .isub, 1, 0, 0, 0, 0, 0) ::
  (48, false, .iconst 1, 1, 0, 0, 0, jI 1, 0) ::
  (49, false, .iadd, 1, 0, 0, 0, 0, 0) ::
  (50, true, .istore 11, 2, 0, 0, 0, 0, 0) ::
  (52, true, .iload 11, 2, 0, 0, 0, 0, 0) ::
  (54, false, .iload 8, 2, 0, 0, 0, 0, 0) ::
  (56, false, .if_icmp .gt 41, 3, 52, 0, 0, 0, 0) ::
  (59, true, .iload 11, 2, 0, 0, 0, 0, 0) ::
  (61, false, .iload 4, 2, 0, 0, 0, 0, 0) ::
  (63, false, .if_icmp .ge 34, 3, 52, 0, 0, 0, 0) ::
  (66, true, .lload 9, 2, 0, 0, 0, 0, 0) ::
  (68, false, .aload_n 0, 1, 0, 0, 0, 0, 0) ::
  (69, false, .iload_n 2, 1, 0, 0, 0, 0, 0) ::
  (70, false, .iload 11, 2, 0, 0, 0, 0, 0) ::
  (72, false, .invokevirtual 254, 3, 216, 2, 17, 0, 0) ::
  (75, false, .i2l, 1, 0, 0, 0, 0, 0) ::
  (76, false, .aload_n 0, 1, 0, 0, 0, 0, 0) ::
  (77, false, .iload_n 3, 1, 0, 0, 0, 0, 0) ::
  (78, false, .iload 8, 2, 0, 0, 0, 0, 0) ::
  (80, false, .iload 11, 2, 0, 0, 0, 0, 0) ::
  (82, false, .isub, 1, 0, 0, 0, 0, 0) ::
  (83, false, .invokevirtual 254, 3, 216, 2, 17, 0, 0) ::
  (86, false, .i2l, 1, 0, 0, 0, 0, 0) ::
  (87, false, .lmul, 1, 0, 0, 0, 0, 0) ::
  cl_218_2
def cl_218_0 : List mj_E := (0, false, .aload_n 0, 1, 0, 0, 0, 0, 0) ::
  (1, false, .iload_n 2, 1, 0, 0, 0, 0, 0) ::
  (2, false, .invokevirtual 260, 3, 219, 1, 17, 0, 0) ::
  (5, false, .istore 4, 2, 0, 0, 0, 0, 0) ::
  (7, true, .aload_n 0, 1, 0, 0, 0, 0, 0) ::
  (8, false, .iload_n 3, 1, 0, 0, 0, 0, 0) ::
  (9, false, .invokevirtual 260, 3, 219, 1, 17, 0, 0) ::
  (12, false, .istore 5, 2, 0, 0, 0, 0, 0) ::
  (14, true, .lconst 0, 1, 0, 0, 0, 0, jL 0) ::
  (15, false, .lstore 6, 2, 0, 0, 0, 0, 0) ::
  (17, true, .iconst 0, 1, 0, 0, 0, jI 0, 0) ::
  (18, false, .istore 8, 2, 0, 0, 0, 0, 0) ::
  (20, true, .iload 8, 2, 0, 0, 0, 0, 0) ::
  (22, false, .sipush 1100, 3, 0, 0, 0, jI 1100, 0) ::
  (25, false, .if_icmp .ge 99, 3, 66, 0, 0, 0, 0) ::
  (28, true, .lload 6, 2, 0, 0, 0, 0, 0) ::
  (30, false, .lstore 9, 2, 0, 0, 0, 0, 0) ::
  (32, true, .iload 8, 2, 0, 0, 0, 0, 0) ::
  (34, false, .iload 5, 2, 0, 0, 0, 0, 0) ::
  (36, false, .if_icmp .ge 7, 3, 22, 0, 0, 0, 0) ::
  (39, false, .iconst 0, 1, 0, 0, 0, jI 0, 0) ::
  (40, false, .goto 10, 3, 27, 0, 0, 0, 0) ::
  (43, false, .iload 8, 2, 0, 0, 0, 0, 0) ::
  (45, false, .iload 5, 2, 0, 0, 0, 0, 0) ::
  cl_218_1
def cd_218 : List mj_E := cl_218_0
def cx_218 : mj_X := (0, [], [])
theorem tb_218 : mj_tab (mj_mt 218) cx_218 cd_218 mj_mh [(0, 0, 0), (0, 0, 0), (7083, 0, 0), (0, 0, 0), (0, 0, 0), (0, 0, 0), (7083, 0, 0), (0, 0, 0), (0, 0, 0), (0, 0, 0), (0, 0, 0), (0, 0, 0), (0, 0, 0), (0, 0, 0), (0, 0, 0), (0, 0, 0), (0, 0, 0), (0, 0, 0), (0, 0, 0), (0, 0, 0), (0, 0, 0), (0, 0, 0), (0, 0, 0), (0, 0, 0), (0, 0, 0), (0, 0, 0), (0, 0, 0), (0, 0, 0), (0, 0, 0), (0, 0, 0), (0, 0, 0), (0, 0, 0), (0, 0, 0), (0, 0, 0), (0, 0, 0), (0, 0, 0), (0, 0, 0), (0, 0, 0), (7071, 0, 0), (0, 0, 0), (0, 0, 0), (0, 0, 0), (0, 0, 0), (0, 0, 0), (0, 0, 0), (7071, 0, 0), (0, 0, 0), (0, 0, 0), (0, 0, 0), (0, 0, 0), (0, 0, 0), (0, 0, 0), (0, 0, 0), (0, 0, 0), (0, 0, 0), (0, 0, 0), (7061, 0, 0), (0, 0, 0), (0, 0, 0), (7062, 0, 0), (0, 0, 0), (0, 0, 0), (0, 0, 0), (0, 0, 0), (0, 0, 0), (0, 0, 0), (0, 0, 0)] = true := mj_tab_f (by decide +kernel)
theorem ct_218 (G : mj_G) {h : mj_H} (hm : isMd h) {t i j : Nat} (ht : t < 15) (hi : i < 15) (hj : j < 15) (hti : t ≠ i) (htj : t ≠ j) {a b : Int} (ha : isN h i a) (hb : isN h j b) : mj_Ct G (mj_mt 218) 0 0 [.ref 1412, .int (jI t), .int (jI i), .int (jI j)] h (fun o h' => o = .returned none ∧ isN h' t (a * b) ∧ FrN t h h') := by
  have z0 : ∀ {v : Int} {k : Nat}, jI (dgt v k) = 0 → dgt v k = 0 := by
    intro v k e
    have := dgt_rng v k
    rwa [jI_eq0 (by omega) (by omega)] at e
  refine mj_Ct_of mj_ok tb_218 rfl rfl (Nat.le_of_ble_eq_true rfl) (fun Run hR => ?_)
  have main : ∀ (n m : Nat), n ≤ 1100 → m ≤ 1100 → (∀ x, n ≤ x → x < 1100 → dgt a x = 0) → (∀ y, m ≤ y → y < 1100 → dgt b y = 0) → ∀ (q k : Nat) (kI : Int32) (cL : Int64) (h' : mj_H) (x9 x10 x11 : Option Value), k + q = 1100 → FrN t h h' → (∀ l, l < k → hI h' 1439 (1100 * t + l) = jI (dgt (a * b) l)) → cL = jL (mcR a b k) → kI = jI k → Run 20 [some (.ref 1412), some (.int (jI t)), some (.int (jI i)), some (.int (jI j)), some (.int (jI n)), some (.int (jI m)), some (.long cL), none, some (.int kI), x9, x10, x11] [] h' (0, 0) := by
    intro n m hn hm4 hza hzb q
    induction q with
    | zero =>
      rintro k kI cL h' x9 x10 x11 hk F hd rfl rfl
      refine hR 60 12 _ _ _ _ _ _ rfl ?_
      refine ⟨fun c => ⟨rfl, fun l hl => hd l (by omega), F⟩, fun c => ?_⟩
      simp (disch := omega) only [mj_lcm, jI_lt, jI_le, jI_eq, jL_lt, jL_le, jL_eq, jI_lt0, jI_0le, jI_0lt, jI_le0, jI_eq0, jL_eq0, jI_L, jI_add, jI_sub, jI_mul, jI_neg, jL_add, jL_sub, jL_mul, jL_neg, jL_I, jI_div, jI_mod, jL_div, jL_mod] at c
      omega
    | succ q ih =>
      rintro k kI cL h' x9 x10 x11 hk F hd rfl rfl
      have hm' := F.md hm
      have ha' := ha.o F (Ne.symm hti)
      have hb' := hb.o F (Ne.symm htj)
      have mb := mcR_bd a b k (by omega)
      have fb := cvS_bd a b k (k + 1)
      have hs := mul_dgt a b k
      have hmc : mcR a b (k + 1) = (mcR a b k + cvS a b k (k + 1)) / 65536 := rfl
      have r118 : ∀ (h4 : mj_H) (cL vL : Int64) (x11 : Option Value), FrN t h h4 → (∀ l, l < k + 1 → hI h4 1439 (1100 * t + l) = jI (dgt (a * b) l)) → cL = jL (mcR a b (k + 1)) → Run 118 (l218 t i j n m cL (jI k) vL x11) [] h4 (0, 0) := by
        intro h4 cL vL x11 F4 hd4 e
        refine hR 60 64 _ _ _ _ _ _ rfl ?_
        exact ih (k + 1) _ _ h4 _ _ _ (by omega) F4 hd4 e (by rw [jI_add]; rfl)
      have r111 : ∀ (h4 : mj_H) (cL : Int64) (x11 : Option Value), FrN t h h4 → (∀ l, l < k + 1 → hI h4 1439 (1100 * t + l) = jI (dgt (a * b) l)) → Run 111 (l218 t i j n m cL (jI k) (jL (mcR a b k + cvS a b k (k + 1))) x11) [] h4 (0, 0) := by
        intro h4 cL x11 F4 hd4
        refine hR 60 60 _ _ _ _ _ _ rfl ?_
        exact r118 h4 _ _ _ F4 hd4 (by rw [shr16 (by omega) (by omega), hmc])
      have r97 : ∀ (vL : Int64) (x11 : Option Value), vL = jL (mcR a b k + cvS a b k (k + 1)) → Run 97 (l218 t i j n m (jL (mcR a b k)) (jI k) vL x11) [] h' (0, 0) := by
        rintro vL x11 rfl
        refine hR 60 52 _ _ _ _ _ _ rfl ?_
        refine ⟨hm'.1, jcallV (ct_214 G hm' ht (by omega) _) ?_⟩
        rw [mask16, jL_I, ← hs]
        refine r111 _ _ _ ⟨F.1.sI (by simp) _ _, fun c hc => (sI_k _ _ (by omega) _).trans (F.2 c hc)⟩ (fun l hl => ?_)
        by_cases z : l = k
        · rw [z]
          exact sI_at _ _ _ _
        · exact (sI_k _ _ (by omega) _).trans (hd l (by omega))
      have stop : ∀ x, n ≤ x → x ≤ k → cvS a b k x = cvS a b k (k + 1) := by
        intro x hx hxk
        have : ∀ e, x + e ≤ k + 1 → cvS a b k (x + e) = cvS a b k x := by
          intro e
          induction e with
          | zero => intro _; rfl
          | succ e ihe =>
            intro he
            show cvS a b k (x + e) + dgt a (x + e) * dgt b (k - (x + e)) = cvS a b k x
            rw [ihe (by omega), hza (x + e) (by omega) (by omega), Int.zero_mul, Int.add_zero]
        have h9 := this (k + 1 - x) (by omega)
        rw [show x + (k + 1 - x) = k + 1 by omega] at h9
        exact h9.symm
      have r52 : ∀ (p x : Nat) (xI : Int32) (vL : Int64), x + p = k + 1 → vL = jL (mcR a b k + cvS a b k x) → xI = jI x → Run 52 (l218 t i j n m (jL (mcR a b k)) (jI k) vL (some (.int xI))) [] h' (0, 0) := by
        intro p
        induction p with
        | zero =>
          rintro x xI vL hx rfl rfl
          refine hR 60 28 _ _ _ _ _ _ rfl ?_
          refine ⟨fun c => r97 _ _ (by rw [show x = k + 1 by omega]), fun c => ?_⟩
          simp (disch := omega) only [mj_lcm, jI_lt, jI_le, jI_eq, jL_lt, jL_le, jL_eq, jI_lt0, jI_0le, jI_0lt, jI_le0, jI_eq0, jL_eq0, jI_L, jI_add, jI_sub, jI_mul, jI_neg, jL_add, jL_sub, jL_mul, jL_neg, jL_I, jI_div, jI_mod, jL_div, jL_mod] at c
          omega
        | succ p ihp =>
          rintro x xI vL hx rfl rfl
          have ea : hI h' 1439 (1100 * i + x) = jI (dgt a x) := ha' x (by omega)
          have eb : hI h' 1439 (1100 * j + (k - x)) = jI (dgt b (k - x)) := hb' (k - x) (by omega)
          have ra := dgt_rng a x
          have rb := dgt_rng b (k - x)
          have r91 : ∀ vL : Int64, vL = jL (mcR a b k + cvS a b k (x + 1)) → Run 91 (l218 t i j n m (jL (mcR a b k)) (jI k) vL (some (.int (jI x)))) [] h' (0, 0) := by
            intro vL e
            refine hR 60 50 _ _ _ _ _ _ rfl ?_
            exact ihp (x + 1) _ _ (by omega) e (by rw [jI_add]; rfl)
          have r66 : Run 66 (l218 t i j n m (jL (mcR a b k)) (jI k) (jL (mcR a b k + cvS a b k x)) (some (.int (jI x)))) [] h' (0, 0) := by
            have c216 := ct_216 G hm' hj (k := k - x) (by omega)
            have ekx : jI (k : Int) - jI (x : Int) = jI ((k - x : Nat) : Int) := by
              rw [jI_sub]
              congr 1
              omega
            rw [← ekx] at c216
            refine hR 60 34 _ _ _ _ _ _ rfl ?_
            refine ⟨hm'.1, jcall (ct_216 G hm' hi (by omega)) ⟨hm'.1, jcall c216 ?_⟩⟩
            rw [ea, eb]
            refine r91 _ ?_
            rw [jI_L (by omega) (by omega), jI_L (by omega) (by omega), jL_mul, jL_add, Int.add_assoc]
            rfl
          have r59 : Run 59 (l218 t i j n m (jL (mcR a b k)) (jI k) (jL (mcR a b k + cvS a b k x)) (some (.int (jI x)))) [] h' (0, 0) := by
            refine hR 60 31 _ _ _ _ _ _ rfl ?_
            refine ⟨fun c => ?_, fun c => r66⟩
            simp (disch := omega) only [mj_lcm, jI_lt, jI_le, jI_eq, jL_lt, jL_le, jL_eq, jI_lt0, jI_0le, jI_0lt, jI_le0, jI_eq0, jL_eq0, jI_L, jI_add, jI_sub, jI_mul, jI_neg, jL_add, jL_sub, jL_mul, jL_neg, jL_I, jI_div, jI_mod, jL_div, jL_mod] at c
            exact r97 _ _ (by rw [stop x (by omega) (by omega)])
          refine hR 60 28 _ _ _ _ _ _ rfl ?_
          refine ⟨fun c => ?_, fun c => r59⟩
          simp (disch := omega) only [mj_lcm, jI_lt, jI_le, jI_eq, jL_lt, jL_le, jL_eq, jI_lt0, jI_0le, jI_0lt, jI_le0, jI_eq0, jL_eq0, jI_L, jI_add, jI_sub, jI_mul, jI_neg, jL_add, jL_sub, jL_mul, jL_neg, jL_I, jI_div, jI_mod, jL_div, jL_mod] at c
          omega
      have begin0 : ∀ x0, (∀ x, x < x0 → m ≤ k - x) → x0 ≤ k + 1 → cvS a b k x0 = 0 := by
        intro x0
        induction x0 with
        | zero => intro _ _; rfl
        | succ x0 ihx =>
          intro h9 hle
          show cvS a b k x0 + dgt a x0 * dgt b (k - x0) = 0
          rw [ihx (fun x hx => h9 x (by omega)) (by omega), hzb (k - x0) (h9 x0 (by omega)) (by omega), Int.mul_zero, Int.add_zero]
      have r50 : ∀ (x0 : Nat) (xI : Int32) (vL : Int64) (x11 : Option Value), x0 ≤ k + 1 → (∀ x, x < x0 → m ≤ k - x) → vL = jL (mcR a b k) → xI = jI x0 → Run 50 (l218 t i j n m (jL (mcR a b k)) (jI k) vL x11) [.int xI] h' (0, 0) := by
        rintro x0 xI vL x11 hx0 h9 rfl rfl
        refine hR 60 27 _ _ _ _ _ _ rfl ?_
        exact r52 (k + 1 - x0) x0 _ _ (by omega) (by rw [begin0 x0 h9 hx0, Int.add_zero]) rfl
      have r32 : ∀ (vL : Int64) (x11 : Option Value), vL = jL (mcR a b k) → Run 32 (l218 t i j n m (jL (mcR a b k)) (jI k) vL x11) [] h' (0, 0) := by
        intro vL x11 e
        refine hR 60 17 _ _ _ _ _ _ rfl ?_
        refine ⟨fun c => ?_, fun c => ?_⟩
        · simp (disch := omega) only [mj_lcm, jI_lt, jI_le, jI_eq, jL_lt, jL_le, jL_eq, jI_lt0, jI_0le, jI_0lt, jI_le0, jI_eq0, jL_eq0, jI_L, jI_add, jI_sub, jI_mul, jI_neg, jL_add, jL_sub, jL_mul, jL_neg, jL_I, jI_div, jI_mod, jL_div, jL_mod] at c
          refine r50 (k - m + 1) _ _ _ (by omega) (fun x hx => by omega) e ?_
          rw [jI_sub, jI_add]
          congr 1
          omega
        · exact r50 0 _ _ _ (by omega) (fun x hx => by omega) e rfl
      have r28 : ∀ (x9 x10 x11 : Option Value), Run 28 [some (.ref 1412), some (.int (jI t)), some (.int (jI i)), some (.int (jI j)), some (.int (jI n)), some (.int (jI m)), some (.long (jL (mcR a b k))), none, some (.int (jI k)), x9, x10, x11] [] h' (0, 0) := by
        intro x9 x10 x11
        refine hR 60 15 _ _ _ _ _ _ rfl ?_
        exact r32 _ _ rfl
      refine hR 60 12 _ _ _ _ _ _ rfl ?_
      refine ⟨fun c => ?_, fun c => r28 _ _ _⟩
      simp (disch := omega) only [mj_lcm, jI_lt, jI_le, jI_eq, jL_lt, jL_le, jL_eq, jI_lt0, jI_0le, jI_0lt, jI_le0, jI_eq0, jL_eq0, jI_L, jI_add, jI_sub, jI_mul, jI_neg, jL_add, jL_sub, jL_mul, jL_neg, jL_I, jI_div, jI_mod, jL_div, jL_mod] at c
      omega
  have c1 := ct_219 G hm hi
  have c2 := ct_219 G hm hj
  have r17 : ∀ (n m : Nat) (x8 x9 x10 x11 : Option Value), n ≤ 1100 → m ≤ 1100 → (∀ x, n ≤ x → x < 1100 → dgt a x = 0) → (∀ y, m ≤ y → y < 1100 → dgt b y = 0) → Run 17 [some (.ref 1412), some (.int (jI t)), some (.int (jI i)), some (.int (jI j)), some (.int (jI n)), some (.int (jI m)), some (.long (jL 0)), none, x8, x9, x10, x11] [] h (0, 0) := by
    intro n m x8 x9 x10 x11 hn hm4 hza hzb
    refine hR 60 10 _ _ _ _ _ _ rfl ?_
    exact main n m hn hm4 hza hzb 1100 0 _ _ h _ _ _ (by omega) ⟨FrI.refl _ _, fun _ _ => rfl⟩ (fun l hl => by omega) rfl rfl
  have r14 : ∀ (n m : Nat) (x6 x7 x8 x9 x10 x11 : Option Value), n ≤ 1100 → m ≤ 1100 → (∀ x, n ≤ x → x < 1100 → dgt a x = 0) → (∀ y, m ≤ y → y < 1100 → dgt b y = 0) → Run 14 [some (.ref 1412), some (.int (jI t)), some (.int (jI i)), some (.int (jI j)), some (.int (jI n)), some (.int (jI m)), x6, x7, x8, x9, x10, x11] [] h (0, 0) := by
    intro n m x6 x7 x8 x9 x10 x11 hn hm4 hza hzb
    refine hR 60 8 _ _ _ _ _ _ rfl ?_
    exact r17 n m _ _ _ _ hn hm4 hza hzb
  have r7 : ∀ (n : Nat) (x5 x6 x7 x8 x9 x10 x11 : Option Value), n ≤ 1100 → (∀ x, n ≤ x → x < 1100 → dgt a x = 0) → Run 7 [some (.ref 1412), some (.int (jI t)), some (.int (jI i)), some (.int (jI j)), some (.int (jI n)), x5, x6, x7, x8, x9, x10, x11] [] h (0, 0) := by
    intro n x5 x6 x7 x8 x9 x10 x11 hn hza
    refine hR 60 4 _ _ _ _ _ _ rfl ?_
    refine ⟨hm.1, jcallP c2 ?_⟩
    rintro o h3 ⟨e3, m, rfl, m1, m2, -⟩
    have e3' := e3.symm
    subst e3'
    exact r14 n m _ _ _ _ _ _ hn m1 hza (fun y h1 h2 => z0 ((hb y h2).symm.trans (m2 y h1 h2)))
  refine hR 60 0 _ _ _ _ _ _ rfl ?_
  refine ⟨hm.1, jcallP c1 ?_⟩
  rintro o h3 ⟨e3, n, rfl, n1, n2, -⟩
  have e3' := e3.symm
  subst e3'
  exact r7 n _ _ _ _ _ _ _ n1 (fun y h1 h2 => z0 ((ha y h2).symm.trans (n2 y h1 h2)))
