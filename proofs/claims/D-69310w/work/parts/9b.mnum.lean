/-! the model: long numbers are rows of digits of 16 bits -/
theorem mj_Ct_mono {G : mj_G} {M : mj_M} {mc ms : Nat} {av : List Value} {h : mj_H} {Po Po' : mj_Q} (a : mj_Ct G M mc ms av h Po) (hp : ∀ o h', Po o h' → Po' o h') : mj_Ct G M mc ms av h Po' := by
  intro p e h1 h2 h3 s m args below f1 f2 f3 f4
  obtain ⟨n, o, w1, w2, w3, ⟨o', h', e1, e2, e3⟩, e4⟩ := a p e h1 h2 h3 s m args below f1 f2 f3 f4
  exact ⟨n, o, w1, w2, w3, ⟨o', h', e1, hp _ _ e2, e3⟩, e4⟩
def pB (k : Nat) : Int := 65536 ^ k
theorem pB_0 : pB 0 = 1 := rfl
theorem pB_s (k : Nat) : pB (k + 1) = pB k * 65536 := Int.pow_succ 65536 k
theorem pB_pos : ∀ k, 0 < pB k
  | 0 => by rw [pB_0]; decide
  | k + 1 => by
    have := pB_pos k
    rw [pB_s]
    omega
theorem pB_mono {i j : Nat} (h : i ≤ j) : pB i ≤ pB j := by
  induction j with
  | zero => rw [show i = 0 by omega]; exact Int.le_refl _
  | succ j ih =>
    by_cases z : i = j + 1
    · rw [z]
      exact Int.le_refl _
    · have h1 := ih (by omega)
      have := pB_pos j
      rw [pB_s]
      omega
/-- digit k of a number, those below 0 as what they lack to a power of 2 -/
def dgt (v : Int) (k : Nat) : Int := v / pB k % 65536
theorem dgt_rng (v : Int) (k : Nat) : 0 ≤ dgt v k ∧ dgt v k < 65536 := ⟨Int.emod_nonneg _ (by decide), Int.emod_lt_of_pos _ (by decide)⟩
theorem q_next (v : Int) (k : Nat) : v / pB k = 65536 * (v / pB (k + 1)) + dgt v k := by
  have h1 : v / pB (k + 1) = v / pB k / 65536 := by rw [pB_s, Int.ediv_ediv_of_nonneg (Int.le_of_lt (pB_pos k))]
  rw [h1]
  unfold dgt
  have := Int.mul_ediv_add_emod (v / pB k) 65536
  omega
theorem r_next (v : Int) (k : Nat) : v % pB (k + 1) = v % pB k + pB k * dgt v k := by
  have h1 := Int.emod_add_mul_ediv v (pB k)
  have h2 := Int.emod_add_mul_ediv v (pB (k + 1))
  rw [q_next v k, Int.mul_add] at h1
  have h3 : pB k * (65536 * (v / pB (k + 1))) = pB (k + 1) * (v / pB (k + 1)) := by rw [pB_s, Int.mul_assoc]
  omega
/-- what is carried to digit k of x a + y b -/
def cy (x a y b : Int) (k : Nat) : Int := (x * (a % pB k) + y * (b % pB k)) / pB k
theorem cy_0 (x a y b : Int) : cy x a y b 0 = 0 := by
  unfold cy
  rw [pB_0, Int.emod_one, Int.emod_one, Int.mul_zero, Int.mul_zero]
  rfl
theorem cy_s (x a y b : Int) (k : Nat) : cy x a y b (k + 1) = (x * dgt a k + y * dgt b k + cy x a y b k) / 65536 := by
  have hp := pB_pos k
  unfold cy
  rw [r_next, r_next]
  generalize a % pB k = r
  generalize b % pB k = s
  generalize dgt a k = u
  generalize dgt b k = v
  rw [pB_s, ← Int.ediv_ediv_of_nonneg (Int.le_of_lt hp)]
  congr 1
  have e : x * (r + pB k * u) + y * (s + pB k * v) = x * r + y * s + pB k * (x * u + y * v) := by grind
  rw [e, Int.add_mul_ediv_left _ _ (by omega)]
  omega
theorem dgt_sum (x a y b : Int) (k : Nat) : dgt (x * a + y * b) k = (x * dgt a k + y * dgt b k + cy x a y b k) % 65536 := by
  have hp := pB_pos k
  have h1 := Int.emod_add_mul_ediv a (pB k)
  have h2 := Int.emod_add_mul_ediv b (pB k)
  have ha := q_next a k
  have hb := q_next b k
  have e : (x * a + y * b) / pB k = x * (a / pB k) + y * (b / pB k) + cy x a y b k := by
    unfold cy
    have e1 : x * a + y * b = (x * (a % pB k) + y * (b % pB k)) + pB k * (x * (a / pB k) + y * (b / pB k)) := by
      generalize a % pB k = r at *
      generalize b % pB k = s at *
      generalize a / pB k = q at *
      generalize b / pB k = t at *
      rw [← h1, ← h2]
      grind
    rw [e1, Int.add_mul_ediv_left _ _ (by omega), Int.add_comm]
  unfold dgt
  rw [e]
  show _ = (x * dgt a k + y * dgt b k + cy x a y b k) % 65536
  generalize cy x a y b k = c
  generalize dgt a k = u at *
  generalize dgt b k = v at *
  have e2 : x * (a / pB k) + y * (b / pB k) + c = x * u + y * v + c + 65536 * (x * (a / pB (k + 1)) + y * (b / pB (k + 1))) := by
    rw [ha, hb]
    grind
  rw [e2, Int.add_mul_emod_self_left]
theorem cy_bd {x y : Int} {M : Int} (hx : -M ≤ x ∧ x ≤ M) (hy : -M ≤ y ∧ y ≤ M) (a b : Int) : ∀ k, -(2 * M) ≤ cy x a y b k ∧ cy x a y b k ≤ 2 * M
  | 0 => by
    rw [cy_0]
    omega
  | k + 1 => by
    have ih := cy_bd hx hy a b k
    obtain ⟨u0, u1⟩ := dgt_rng a k
    obtain ⟨v0, v1⟩ := dgt_rng b k
    rw [cy_s]
    generalize cy x a y b k = c at *
    generalize dgt a k = u at *
    generalize dgt b k = v at *
    have hM : 0 ≤ M := by omega
    have a1 : x * u ≤ M * 65535 := Int.le_trans (Int.mul_le_mul_of_nonneg_right hx.2 u0) (Int.mul_le_mul_of_nonneg_left (by omega) hM)
    have a2 : -(M * 65535) ≤ x * u := by
      have h1 : -M * u ≤ x * u := Int.mul_le_mul_of_nonneg_right hx.1 u0
      have h2 : M * u ≤ M * 65535 := Int.mul_le_mul_of_nonneg_left (by omega) hM
      rw [Int.neg_mul] at h1
      omega
    have a3 : y * v ≤ M * 65535 := Int.le_trans (Int.mul_le_mul_of_nonneg_right hy.2 v0) (Int.mul_le_mul_of_nonneg_left (by omega) hM)
    have a4 : -(M * 65535) ≤ y * v := by
      have h1 : -M * v ≤ y * v := Int.mul_le_mul_of_nonneg_right hy.1 v0
      have h2 : M * v ≤ M * 65535 := Int.mul_le_mul_of_nonneg_left (by omega) hM
      rw [Int.neg_mul] at h1
      omega
    generalize x * u = X at *
    generalize y * v = Y at *
    omega
theorem mul_bd {x u M : Int} (hx : -M ≤ x ∧ x ≤ M) (hu : 0 ≤ u ∧ u < 65536) : -(M * 65535) ≤ x * u ∧ x * u ≤ M * 65535 := by
  have hM : 0 ≤ M := by omega
  have h1 : -M * u ≤ x * u := Int.mul_le_mul_of_nonneg_right hx.1 hu.1
  have h2 : M * u ≤ M * 65535 := Int.mul_le_mul_of_nonneg_left (by omega) hM
  have h3 : x * u ≤ M * u := Int.mul_le_mul_of_nonneg_right hx.2 hu.1
  rw [Int.neg_mul] at h1
  omega
/-- number i of the model -/
def isN (h : mj_H) (i : Nat) (v : Int) : Prop := ∀ k, k < 1100 → hI h 1439 (1100 * i + k) = jI (dgt v k)
/-- of the numbers only row t is changed -/
def FrN (t : Nat) (h h' : mj_H) : Prop := FrI [1439] h h' ∧ ∀ c, c < 1100 * t ∨ 1100 * t + 1100 ≤ c → hI h' 1439 c = hI h 1439 c
theorem isN.o {t i : Nat} {h h' : mj_H} {v : Int} (a : isN h i v) (f : FrN t h h') (hne : i ≠ t) : isN h' i v := fun k hk => (f.2 _ (by omega)).trans (a k hk)
theorem FrN.md {t : Nat} {h h' : mj_H} (f : FrN t h h') (a : isMd h) : isMd h' := a.fr f.1.1
theorem mask16 (v : Int) : jL v &&& jL 65535 = jL (v % 65536) := jL_mask (k := 16) (by decide) rfl
theorem shr16 {v : Int} (h1 : -9223372036854775808 ≤ v) (h2 : v < 9223372036854775808) : jL v >>> ((jI 16).toInt64 &&& 63) = jL (v / 65536) := jL_shr (K := 16) 16 (by decide) rfl h1 h2
theorem dgt_small {v : Int} (h1 : -9223372036854775808 ≤ v) (h2 : v < 9223372036854775808) {k : Nat} (hk : 4 ≤ k) : v / pB k = v / 9223372036854775808 := by
  have h3 : pB 4 ≤ pB k := pB_mono hk
  have h4 : pB 4 = 18446744073709551616 := by decide
  rw [h4] at h3
  rcases Int.lt_or_le v 0 with z | z
  · have e1 : v / pB k = -1 := by
      have a1 := Int.ediv_neg_of_neg_of_pos z (pB_pos k)
      have a2 : -1 ≤ v / pB k := Int.le_ediv_of_mul_le (pB_pos k) (by omega)
      omega
    rw [e1]
    omega
  · rw [Int.ediv_eq_zero_of_lt z (by omega)]
    omega
/-- FormHouseModel.set(IJ)V; cuts at [3] -/
def cd_213 : List mj_E := [(0, false, .iconst 0, 1, 0, 0, 0, jI 0, 0),
  (1, false, .istore 4, 2, 0, 0, 0, 0, 0),
  (3, true, .iload 4, 2, 0, 0, 0, 0, 0),
  (5, false, .sipush 1100, 3, 0, 0, 0, jI 1100, 0),
  (8, false, .if_icmp .ge 41, 3, 26, 0, 0, 0, 0),
  (11, false, .aload_n 0, 1, 0, 0, 0, 0, 0),
  (12, false, .iload_n 1, 1, 0, 0, 0, 0, 0),
  (13, false, .iload 4, 2, 0, 0, 0, 0, 0),
  (15, false, .iload 4, 2, 0, 0, 0, 0, 0),
  (17, false, .iconst 4, 1, 0, 0, 0, jI 4, 0),
  (18, false, .if_icmp .ge 13, 3, 17, 0, 0, 0, 0),
  (21, false, .lload_n 2, 1, 0, 0, 0, 0, 0),
  (22, false, .bipush 16, 2, 0, 0, 0, jI 16, 0),
  (24, false, .iload 4, 2, 0, 0, 0, 0, 0),
  (26, false, .imul, 1, 0, 0, 0, 0, 0),
  (27, false, .lshr, 1, 0, 0, 0, 0, 0),
  (28, false, .goto 7, 3, 20, 0, 0, 0, 0),
  (31, false, .lload_n 2, 1, 0, 0, 0, 0, 0),
  (32, false, .bipush 63, 2, 0, 0, 0, jI 63, 0),
  (34, false, .lshr, 1, 0, 0, 0, 0, 0),
  (35, false, .ldc2_w 248, 3, 0, 0, 0, 0, jL 65535),
  (38, false, .land, 1, 0, 0, 0, 0, 0),
  (39, false, .l2i, 1, 0, 0, 0, 0, 0),
  (40, false, .invokevirtual 250, 3, 214, 3, 17, 0, 0),
  (43, false, .iinc 4 1, 3, 0, 0, 0, jI 1, 0),
  (46, false, .goto (-43), 3, 2, 0, 0, 0, 0),
  (49, false, .return_, 1, 0, 0, 0, 0, 0)]
def cx_213 : mj_X := (0, [], [])
theorem tb_213 : mj_tab (mj_mt 213) cx_213 cd_213 mj_mh [(0, 0, 0), (0, 0, 0), (0, 0, 0), (0, 0, 0), (0, 0, 0), (0, 0, 0), (0, 0, 0), (0, 0, 0), (0, 0, 0), (0, 0, 0), (0, 0, 0), (0, 0, 0), (0, 0, 0), (0, 0, 0), (0, 0, 0), (0, 0, 0), (0, 0, 0), (0, 0, 0), (0, 0, 0), (0, 0, 0), (7061, 0, 0), (0, 0, 0), (0, 0, 0), (7062, 0, 0), (0, 0, 0), (0, 0, 0), (0, 0, 0)] = true := mj_tab_f (by decide +kernel)
theorem ct_213 (G : mj_G) {h : mj_H} (hm : isMd h) {i : Nat} (hi : i < 15) {v : Int} (h1 : -9223372036854775808 ≤ v) (h2 : v < 9223372036854775808) : mj_Ct G (mj_mt 213) 0 0 [.ref 1412, .int (jI i), .long (jL v)] h (fun o h' => o = .returned none ∧ isN h' i v ∧ FrN i h h') := by
  refine mj_Ct_of mj_ok tb_213 rfl rfl (Nat.le_of_ble_eq_true rfl) (fun Run hR => ?_)
  have loop : ∀ (m k : Nat) (kI : Int32) (h' : mj_H), k + m = 1100 → FrN i h h' → (∀ j, j < k → hI h' 1439 (1100 * i + j) = jI (dgt v j)) → kI = jI k → Run 3 [some (.ref 1412), some (.int (jI i)), some (.long (jL v)), none, some (.int kI)] [] h' (0, 0) := by
    intro m
    induction m with
    | zero =>
      rintro k kI h' hk F hd rfl
      refine hR 60 2 _ _ _ _ _ _ rfl ?_
      refine ⟨fun c => ⟨rfl, fun j hj => hd j (by omega), F⟩, fun c => ?_⟩
      simp (disch := omega) only [mj_lcm, jI_lt, jI_le, jI_eq, jL_lt, jL_le, jL_eq, jI_lt0, jI_0le, jI_0lt, jI_le0, jI_eq0, jL_eq0, jI_L, jI_add, jI_sub, jI_mul, jI_neg, jL_add, jL_sub, jL_mul, jL_neg, jL_I, jI_div, jI_mod, jL_div, jL_mod] at c
      omega
    | succ m ih =>
      rintro k kI h' hk F hd rfl
      have hm' := F.md hm
      have go : ∀ w : Int32, w = jI (dgt v k) → FrN i h (sI h' 1439 (1100 * i + k) w) ∧ ∀ j, j < k + 1 → hI (sI h' 1439 (1100 * i + k) w) 1439 (1100 * i + j) = jI (dgt v j) := by
        rintro w rfl
        refine ⟨⟨F.1.sI (by simp) _ _, fun c hc => (sI_k _ _ (by omega) _).trans (F.2 c hc)⟩, fun j hj => ?_⟩
        by_cases z : j = k
        · rw [z]
          exact sI_at _ _ _ _
        · exact (sI_k _ _ (by omega) _).trans (hd j (by omega))
      refine hR 60 2 _ _ _ _ _ _ rfl ?_
      refine ⟨fun c => ?_, fun c => ⟨fun c2 => ⟨hm'.1, jcallV (ct_214 G hm' hi (by omega) _) ?_⟩, fun c2 => ⟨hm'.1, jcallV (ct_214 G hm' hi (by omega) _) ?_⟩⟩⟩
      · simp (disch := omega) only [mj_lcm, jI_lt, jI_le, jI_eq, jL_lt, jL_le, jL_eq, jI_lt0, jI_0le, jI_0lt, jI_le0, jI_eq0, jL_eq0, jI_L, jI_add, jI_sub, jI_mul, jI_neg, jL_add, jL_sub, jL_mul, jL_neg, jL_I, jI_div, jI_mod, jL_div, jL_mod] at c
        omega
      · simp (disch := omega) only [mj_lcm, jI_lt, jI_le, jI_eq, jL_lt, jL_le, jL_eq, jI_lt0, jI_0le, jI_0lt, jI_le0, jI_eq0, jL_eq0, jI_L, jI_add, jI_sub, jI_mul, jI_neg, jL_add, jL_sub, jL_mul, jL_neg, jL_I, jI_div, jI_mod, jL_div, jL_mod] at c2
        have e : ((jL v >>> ((jI 63).toInt64 &&& 63)) &&& jL 65535).toInt32 = jI (dgt v k) := by
          rw [jL_shr (K := 63) 63 (by decide) rfl h1 h2, mask16, jL_I]
          unfold dgt
          rw [dgt_small h1 h2 (by omega)]
          rfl
        obtain ⟨g1, g2⟩ := go _ e
        exact ih (k + 1) _ _ (by omega) g1 g2 (by rw [jI_add]; rfl)
      · simp (disch := omega) only [mj_lcm, jI_lt, jI_le, jI_eq, jL_lt, jL_le, jL_eq, jI_lt0, jI_0le, jI_0lt, jI_le0, jI_eq0, jL_eq0, jI_L, jI_add, jI_sub, jI_mul, jI_neg, jL_add, jL_sub, jL_mul, jL_neg, jL_I, jI_div, jI_mod, jL_div, jL_mod] at c2
        have e : ((jL v >>> ((jI 16 * jI k).toInt64 &&& 63)) &&& jL 65535).toInt32 = jI (dgt v k) := by
          rw [jI_mul, jL_shr (16 * k) (by omega) (by omega) h1 h2, mask16, jL_I]
          unfold dgt pB
          rw [show (65536 : Int) = 2 ^ 16 from rfl, ← Int.pow_mul]
        obtain ⟨g1, g2⟩ := go _ e
        exact ih (k + 1) _ _ (by omega) g1 g2 (by rw [jI_add]; rfl)
  refine hR 60 0 _ _ _ _ _ _ rfl ?_
  exact loop 1100 0 _ h (by omega) ⟨FrI.refl _ _, fun _ _ => rfl⟩ (fun j hj => by omega) rfl
abbrev l215 (t : Int) (x : Int64) (i : Int) (y : Int64) (j : Int) (c : Int64) (k : Int32) (x11 x12 : Option Value) : mj_Ls := [some (.ref 1412), some (.int (jI t)), some (.long x), none, some (.int (jI i)), some (.long y), none, some (.int (jI j)), some (.long c), none, some (.int k), x11, x12]
/-- FormHouseModel.sum(IJIJI)V; cuts at [3, 6, 43, 57, 64] -/
def cl_215_1 : List mj_E := (41, false, .lstore 11, 2, 0, 0, 0, 0, 0) ::
  (43, true, .aload_n 0, 1, 0, 0, 0, 0, 0) ::
  (44, false, .iload_n 1, 1, 0, 0, 0, 0, 0) ::
  (45, false, .iload 10, 2, 0, 0, 0, 0, 0) ::
  (47, false, .lload 11, 2, 0, 0, 0, 0, 0) ::
  (49, false, .ldc2_w 248, 3, 0, 0, 0, 0, jL 65535) ::
  (52, false, .land, 1, 0, 0, 0, 0, 0) ::
  (53, false, .l2i, 1, 0, 0, 0, 0, 0) ::
  (54, false, .invokevirtual 250, 3, 214, 3, 17, 0, 0) ::
  (57, true, .lload 11, 2, 0, 0, 0, 0, 0) ::
  (59, false, .bipush 16, 2, 0, 0, 0, jI 16, 0) ::
  (61, false, .lshr, 1, 0, 0, 0, 0, 0) ::
  (62, false, .lstore 8, 2, 0, 0, 0, 0, 0) ::
  (64, true, .iinc 10 1, 3, 0, 0, 0, jI 1, 0) ::
  (67, false, .goto (-61), 3, 4, 0, 0, 0, 0) ::
  (70, false, .return_, 1, 0, 0, 0, 0, 0) ::
  []
def cl_215_0 : List mj_E := (0, false, .lconst 0, 1, 0, 0, 0, 0, jL 0) ::
  (1, false, .lstore 8, 2, 0, 0, 0, 0, 0) ::
  (3, true, .iconst 0, 1, 0, 0, 0, jI 0, 0) ::
  (4, false, .istore 10, 2, 0, 0, 0, 0, 0) ::
  (6, true, .iload 10, 2, 0, 0, 0, 0, 0) ::
  (8, false, .sipush 1100, 3, 0, 0, 0, jI 1100, 0) ::
  (11, false, .if_icmp .ge 59, 3, 39, 0, 0, 0, 0) ::
  (14, false, .lload_n 2, 1, 0, 0, 0, 0, 0) ::
  (15, false, .aload_n 0, 1, 0, 0, 0, 0, 0) ::
  (16, false, .iload 4, 2, 0, 0, 0, 0, 0) ::
  (18, false, .iload 10, 2, 0, 0, 0, 0, 0) ::
  (20, false, .invokevirtual 254, 3, 216, 2, 17, 0, 0) ::
  (23, false, .i2l, 1, 0, 0, 0, 0, 0) ::
  (24, false, .lmul, 1, 0, 0, 0, 0, 0) ::
  (25, false, .lload 5, 2, 0, 0, 0, 0, 0) ::
  (27, false, .aload_n 0, 1, 0, 0, 0, 0, 0) ::
  (28, false, .iload 7, 2, 0, 0, 0, 0, 0) ::
  (30, false, .iload 10, 2, 0, 0, 0, 0, 0) ::
  (32, false, .invokevirtual 254, 3, 216, 2, 17, 0, 0) ::
  (35, false, .i2l, 1, 0, 0, 0, 0, 0) ::
  (36, false, .lmul, 1, 0, 0, 0, 0, 0) ::
  (37, false, .ladd, 1, 0, 0, 0, 0, 0) ::
  (38, false, .lload 8, 2, 0, 0, 0, 0, 0) ::
  (40, false, .ladd, 1, 0, 0, 0, 0, 0) ::
  cl_215_1
def cd_215 : List mj_E := cl_215_0
def cx_215 : mj_X := (0, [], [])
theorem tb_215 : mj_tab (mj_mt 215) cx_215 cd_215 mj_mh [(0, 0, 0), (0, 0, 0), (0, 0, 0), (0, 0, 0), (0, 0, 0), (0, 0, 0), (0, 0, 0), (0, 0, 0), (0, 0, 0), (0, 0, 0), (0, 0, 0), (7071, 0, 0), (0, 0, 0), (0, 0, 0), (0, 0, 0), (0, 0, 0), (0, 0, 0), (0, 0, 0), (7071, 0, 0), (0, 0, 0), (0, 0, 0), (0, 0, 0), (0, 0, 0), (0, 0, 0), (0, 0, 0), (0, 0, 0), (0, 0, 0), (0, 0, 0), (0, 0, 0), (7061, 0, 0), (0, 0, 0), (0, 0, 0), (7062, 0, 0), (0, 0, 0), (0, 0, 0), (0, 0, 0), (0, 0, 0), (0, 0, 0), (0, 0, 0), (0, 0, 0)] = true := mj_tab_f (by decide +kernel)
theorem ct_215 (G : mj_G) {h : mj_H} (hm : isMd h) {t i j : Nat} (ht : t < 15) (hi : i < 15) (hj : j < 15) {x y a b : Int} (hx : -2199023255552 ≤ x ∧ x ≤ 2199023255552) (hy : -2199023255552 ≤ y ∧ y ≤ 2199023255552) (ha : isN h i a) (hb : isN h j b) : mj_Ct G (mj_mt 215) 0 0 [.ref 1412, .int (jI t), .long (jL x), .int (jI i), .long (jL y), .int (jI j)] h (fun o h' => o = .returned none ∧ isN h' t (x * a + y * b) ∧ FrN t h h') := by
  refine mj_Ct_of mj_ok tb_215 rfl rfl (Nat.le_of_ble_eq_true rfl) (fun Run hR => ?_)
  have loop : ∀ (m k : Nat) (kI : Int32) (cL : Int64) (h' : mj_H) (x11 x12 : Option Value), k + m = 1100 → FrI [1439] h h' → (∀ c, c < 1100 * t ∨ 1100 * t + k ≤ c → hI h' 1439 c = hI h 1439 c) → (∀ l, l < k → hI h' 1439 (1100 * t + l) = jI (dgt (x * a + y * b) l)) → cL = jL (cy x a y b k) → kI = jI k → Run 6 (l215 t (jL x) i (jL y) j cL kI x11 x12) [] h' (0, 0) := by
    intro m
    induction m with
    | zero =>
      rintro k kI cL h' x11 x12 hk F hr hd rfl rfl
      refine hR 60 4 _ _ _ _ _ _ rfl ?_
      refine ⟨fun c => ⟨rfl, fun l hl => hd l (by omega), F, fun c hc => hr c (by omega)⟩, fun c => ?_⟩
      simp (disch := omega) only [mj_lcm, jI_lt, jI_le, jI_eq, jL_lt, jL_le, jL_eq, jI_lt0, jI_0le, jI_0lt, jI_le0, jI_eq0, jL_eq0, jI_L, jI_add, jI_sub, jI_mul, jI_neg, jL_add, jL_sub, jL_mul, jL_neg, jL_I, jI_div, jI_mod, jL_div, jL_mod] at c
      omega
    | succ m ih =>
      rintro k kI cL h' x11 x12 hk F hr hd rfl rfl
      have hm' := hm.fr F.1
      have ea : hI h' 1439 (1100 * i + k) = jI (dgt a k) := (hr _ (by omega)).trans (ha k (by omega))
      have eb : hI h' 1439 (1100 * j + k) = jI (dgt b k) := (hr _ (by omega)).trans (hb k (by omega))
      have ra := dgt_rng a k
      have rb := dgt_rng b k
      have cb := cy_bd hx hy a b k
      have b1 := mul_bd hx ra
      have b2 := mul_bd hy rb
      have hs := dgt_sum x a y b k
      have hc := cy_s x a y b k
      obtain ⟨V, hV⟩ : ∃ V, V = x * dgt a k + y * dgt b k + cy x a y b k := ⟨_, rfl⟩
      rw [← hV] at hs hc
      have hVb : -9223372036854775808 ≤ V ∧ V < 9223372036854775808 := by
        rw [hV]
        generalize x * dgt a k = X at *
        generalize y * dgt b k = Y at *
        omega
      have r64 : ∀ (h4 : mj_H) (cL : Int64) (x11 x12 : Option Value), FrI [1439] h h4 → (∀ c, c < 1100 * t ∨ 1100 * t + (k + 1) ≤ c → hI h4 1439 c = hI h 1439 c) → (∀ l, l < k + 1 → hI h4 1439 (1100 * t + l) = jI (dgt (x * a + y * b) l)) → cL = jL (cy x a y b (k + 1)) → Run 64 (l215 t (jL x) i (jL y) j cL (jI k) x11 x12) [] h4 (0, 0) := by
        intro h4 cL x11 x12 F4 hr4 hd4 e
        refine hR 60 37 _ _ _ _ _ _ rfl ?_
        exact ih (k + 1) _ _ h4 _ _ (by omega) F4 hr4 hd4 e (by rw [jI_add]; rfl)
      have r57 : ∀ (h4 : mj_H) (cL : Int64), FrI [1439] h h4 → (∀ c, c < 1100 * t ∨ 1100 * t + (k + 1) ≤ c → hI h4 1439 c = hI h 1439 c) → (∀ l, l < k + 1 → hI h4 1439 (1100 * t + l) = jI (dgt (x * a + y * b) l)) → Run 57 (l215 t (jL x) i (jL y) j cL (jI k) (some (.long (jL V))) none) [] h4 (0, 0) := by
        intro h4 cL F4 hr4 hd4
        refine hR 60 33 _ _ _ _ _ _ rfl ?_
        exact r64 h4 _ _ _ F4 hr4 hd4 (by rw [shr16 hVb.1 hVb.2, hc])
      have r43 : ∀ (cL vL : Int64), vL = jL V → Run 43 (l215 t (jL x) i (jL y) j cL (jI k) (some (.long vL)) none) [] h' (0, 0) := by
        rintro cL vL rfl
        refine hR 60 25 _ _ _ _ _ _ rfl ?_
        refine ⟨hm'.1, jcallV (ct_214 G hm' ht (by omega) _) ?_⟩
        rw [mask16, jL_I, ← hs]
        refine r57 _ _ (F.sI (by simp) _ _) (fun c hc => (sI_k _ _ (by omega) _).trans (hr c (by omega))) (fun l hl => ?_)
        by_cases z : l = k
        · rw [z]
          exact sI_at _ _ _ _
        · exact (sI_k _ _ (by omega) _).trans (hd l (by omega))
      refine hR 60 4 _ _ _ _ _ _ rfl ?_
      refine ⟨fun c => ?_, fun c => ⟨hm'.1, jcall (ct_216 G hm' hi (by omega)) ⟨hm'.1, jcall (ct_216 G hm' hj (by omega)) ?_⟩⟩⟩
      · simp (disch := omega) only [mj_lcm, jI_lt, jI_le, jI_eq, jL_lt, jL_le, jL_eq, jI_lt0, jI_0le, jI_0lt, jI_le0, jI_eq0, jL_eq0, jI_L, jI_add, jI_sub, jI_mul, jI_neg, jL_add, jL_sub, jL_mul, jL_neg, jL_I, jI_div, jI_mod, jL_div, jL_mod] at c
        omega
      · rw [ea, eb]
        refine r43 _ _ ?_
        rw [jI_L (by omega) (by omega), jI_L (by omega) (by omega), jL_mul, jL_mul, jL_add, jL_add, hV]
  have r3 : ∀ (x10 x11 x12 : Option Value), Run 3 [some (.ref 1412), some (.int (jI t)), some (.long (jL x)), none, some (.int (jI i)), some (.long (jL y)), none, some (.int (jI j)), some (.long (jL 0)), none, x10, x11, x12] [] h (0, 0) := by
    intro x10 x11 x12
    refine hR 60 2 _ _ _ _ _ _ rfl ?_
    exact loop 1100 0 _ _ h _ _ (by omega) (FrI.refl _ _) (fun _ _ => rfl) (fun l hl => by omega) (by rw [cy_0]) rfl
  refine hR 60 0 _ _ _ _ _ _ rfl ?_
  exact r3 _ _ _
theorem ct_217' (G : mj_G) {h : mj_H} (hm : isMd h) {t f : Nat} (ht : t < 15) (hf : f < 15) (hne : t ≠ f) {v : Int} (hv : isN h f v) : mj_Ct G (mj_mt 217) 0 0 [.ref 1412, .int (jI t), .int (jI f)] h (fun o h' => o = .returned none ∧ isN h' t v ∧ FrN t h h') := by
  refine mj_Ct_mono (ct_217 G hm ht hf hne) ?_
  rintro o h' ⟨rfl, F, e⟩
  refine ⟨rfl, fun k hk => ?_, F, fun c hc => ?_⟩
  · have := e (1100 * t + k)
    rw [if_pos (by omega), show 1100 * t + k - 1100 * t = k by omega] at this
    exact this.trans (hv k hk)
  · have := e c
    rw [if_neg (by omega)] at this
    exact this
def inR (v : Int) : Prop := -(32768 * pB 1099) ≤ v ∧ v < 32768 * pB 1099
theorem top_sign {v : Int} (h : inR v) : 32767 < dgt v 1099 ↔ v < 0 := by
  have hp := pB_pos 1099
  have h1 : -32768 ≤ v / pB 1099 := Int.le_ediv_of_mul_le hp (by have := h.1; omega)
  have h2 : v / pB 1099 < 32768 := Int.ediv_lt_of_lt_mul hp h.2
  have h3 : v / pB 1099 < 0 ↔ v < 0 := by
    rcases Int.lt_or_le v 0 with z | z
    · exact ⟨fun _ => z, fun _ => Int.ediv_neg_of_neg_of_pos z hp⟩
    · have := Int.ediv_nonneg z (Int.le_of_lt hp)
      omega
  rw [← h3]
  unfold dgt
  omega
theorem ct_222' (G : mj_G) {h : mj_H} (hm : isMd h) {i : Nat} (hi : i < 15) {v : Int} (hv : isN h i v) (hr : inR v) : mj_Ct G (mj_mt 222) 0 0 [.ref 1412, .int (jI i)] h (jR (.int (jI (if v < 0 then 1 else 0))) h) := by
  have h1 := dgt_rng v 1099
  have c := ct_222 G hm hi (hv 1099 (by omega)) h1.1 h1.2
  rw [show (if 32767 < dgt v 1099 then (1 : Int) else 0) = if v < 0 then 1 else 0 by
    by_cases z : v < 0
    · rw [if_pos z, if_pos ((top_sign hr).2 z)]
    · rw [if_neg z, if_neg (fun q => z ((top_sign hr).1 q))]] at c
  exact c
