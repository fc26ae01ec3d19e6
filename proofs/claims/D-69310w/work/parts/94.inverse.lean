/-! the model: what is inverse modulo m -/
abbrev l209 (v m x y u r : Int64) (q12 q13 q14 q15 : Option Value) : mj_Ls := [some (.long v), none, some (.long m), none, some (.long x), none, some (.long y), none, some (.long u), none, some (.long r), none, q12, q13, q14, q15]
/-- FormHouseModel.inverseOf(JJ)J; cuts at [6, 13, 16, 30, 40, 44, 48, 58, 62] -/
def cl_209_1 : List mj_E := (40, true, .lload 10, 2, 0, 0, 0, 0, 0) ::
  (42, false, .lstore 8, 2, 0, 0, 0, 0, 0) ::
  (44, true, .lload 14, 2, 0, 0, 0, 0, 0) ::
  (46, false, .lstore 10, 2, 0, 0, 0, 0, 0) ::
  (48, true, .lload 4, 2, 0, 0, 0, 0, 0) ::
  (50, false, .lload 12, 2, 0, 0, 0, 0, 0) ::
  (52, false, .lload 6, 2, 0, 0, 0, 0, 0) ::
  (54, false, .lmul, 1, 0, 0, 0, 0, 0) ::
  (55, false, .lsub, 1, 0, 0, 0, 0, 0) ::
  (56, false, .lstore 14, 2, 0, 0, 0, 0, 0) ::
  (58, true, .lload 6, 2, 0, 0, 0, 0, 0) ::
  (60, false, .lstore 4, 2, 0, 0, 0, 0, 0) ::
  (62, true, .lload 14, 2, 0, 0, 0, 0, 0) ::
  (64, false, .lstore 6, 2, 0, 0, 0, 0, 0) ::
  (66, false, .goto (-50), 3, 10, 0, 0, 0, 0) ::
  (69, false, .lload 4, 2, 0, 0, 0, 0, 0) ::
  (71, false, .lload_n 2, 1, 0, 0, 0, 0, 0) ::
  (72, false, .invokestatic 143, 3, 200, 2, 0, 0, 0) ::
  (75, false, .lreturn, 1, 0, 0, 0, 0, 0) ::
  []
def cl_209_0 : List mj_E := (0, false, .lconst 1, 1, 0, 0, 0, 0, jL 1) ::
  (1, false, .lstore 4, 2, 0, 0, 0, 0, 0) ::
  (3, false, .lconst 0, 1, 0, 0, 0, 0, jL 0) ::
  (4, false, .lstore 6, 2, 0, 0, 0, 0, 0) ::
  (6, true, .lload_n 0, 1, 0, 0, 0, 0, 0) ::
  (7, false, .lload_n 2, 1, 0, 0, 0, 0, 0) ::
  (8, false, .invokestatic 143, 3, 200, 2, 0, 0, 0) ::
  (11, false, .lstore 8, 2, 0, 0, 0, 0, 0) ::
  (13, true, .lload_n 2, 1, 0, 0, 0, 0, 0) ::
  (14, false, .lstore 10, 2, 0, 0, 0, 0, 0) ::
  (16, true, .lload 10, 2, 0, 0, 0, 0, 0) ::
  (18, false, .lconst 0, 1, 0, 0, 0, 0, jL 0) ::
  (19, false, .lcmp, 1, 0, 0, 0, 0, 0) ::
  (20, false, .ifCond .le 49, 3, 39, 0, 0, 0, 0) ::
  (23, false, .lload 8, 2, 0, 0, 0, 0, 0) ::
  (25, false, .lload 10, 2, 0, 0, 0, 0, 0) ::
  (27, false, .ldiv, 1, 0, 0, 0, 0, 0) ::
  (28, false, .lstore 12, 2, 0, 0, 0, 0, 0) ::
  (30, true, .lload 8, 2, 0, 0, 0, 0, 0) ::
  (32, false, .lload 12, 2, 0, 0, 0, 0, 0) ::
  (34, false, .lload 10, 2, 0, 0, 0, 0, 0) ::
  (36, false, .lmul, 1, 0, 0, 0, 0, 0) ::
  (37, false, .lsub, 1, 0, 0, 0, 0, 0) ::
  (38, false, .lstore 14, 2, 0, 0, 0, 0, 0) ::
  cl_209_1
def cd_209 : List mj_E := cl_209_0
def cx_209 : mj_X := (2, [], [])
theorem tb_209 : mj_tab (mj_mt 209) cx_209 cd_209 mj_mh [(0, 0, 0), (0, 0, 0), (0, 0, 0), (0, 0, 0), (0, 0, 0), (0, 0, 0), (7007, 0, 0), (0, 0, 0), (0, 0, 0), (0, 0, 0), (0, 0, 0), (0, 0, 0), (0, 0, 0), (0, 0, 0), (0, 0, 0), (0, 0, 0), (0, 0, 0), (0, 0, 0), (0, 0, 0), (0, 0, 0), (0, 0, 0), (0, 0, 0), (0, 0, 0), (0, 0, 0), (0, 0, 0), (0, 0, 0), (0, 0, 0), (0, 0, 0), (0, 0, 0), (0, 0, 0), (0, 0, 0), (0, 0, 0), (0, 0, 0), (0, 0, 0), (0, 0, 0), (0, 0, 0), (0, 0, 0), (0, 0, 0), (0, 0, 0), (0, 0, 0), (0, 0, 0), (7007, 0, 0), (0, 0, 0)] = true := mj_tab_f (by decide +kernel)
theorem ct_209 (G : mj_G) {v m : Int} (hv : -9223372036854775808 < v ∧ v < 9223372036854775808) (hm : 0 < m ∧ m < 4611686018427387904) (hg : Int.gcd v m = 1) (h : mj_H) : mj_Ct G (mj_mt 209) 0 0 [.long (jL v), .long (jL m)] h (fun o h' => h' = h ∧ ∃ x : Int, o = .returned (some (.long (jL x))) ∧ 0 ≤ x ∧ x < m ∧ m ∣ v * x - 1) := by
  refine mj_Ct_of mj_ok tb_209 rfl rfl (Nat.le_of_ble_eq_true rfl) (fun Run hR => ?_)
  have r16 : ∀ (n : Nat) (x y u r : Int) (xL yL uL rL : Int64) (q12 q13 q14 q15 : Option Value), r.toNat ≤ n → 0 ≤ u → 0 ≤ r → u ≤ m → r ≤ m → (x.natAbs : Int) ≤ m → (y.natAbs : Int) * u + (x.natAbs : Int) * r = m → (u = 0 → y = 0) → ((0 ≤ x ∧ y ≤ 0) ∨ (x ≤ 0 ∧ 0 ≤ y)) → m ∣ x * v - u → m ∣ y * v - r → Int.gcd u r = 1 → xL = jL x → yL = jL y → uL = jL u → rL = jL r → Run 16 (l209 (jL v) (jL m) xL yL uL rL q12 q13 q14 q15) [] h (0, 0) := by
    intro n
    induction n with
    | zero =>
      rintro x y u r xL yL uL rL q12 q13 q14 q15 hn u0 r0 u1 r1 x1 hs hu0 hsg d1 d2 hgg rfl rfl rfl rfl
      have hr : r = 0 := by omega
      subst hr
      have hu : u = 1 := by
        rw [Int.gcd_zero_right] at hgg
        omega
      have c200 := ct_200 G (x := x) (y := m) (by omega) (by omega) (by omega) (by omega) h
      refine hR 60 10 _ _ _ _ _ _ rfl ?_
      refine ⟨fun c => ?_, fun c => ?_⟩
      · refine jcall c200 ?_
        refine ⟨rfl, x % m, rfl, Int.emod_nonneg _ (by omega), Int.emod_lt_of_pos _ (by omega), ?_⟩
        have h1 : m ∣ x - x % m := ⟨x / m, by have := Int.emod_add_mul_ediv x m; omega⟩
        have h2 : m ∣ v * (x - x % m) := Int.dvd_trans h1 (Int.dvd_mul_left _ _)
        have h3 : v * (x % m) - 1 = x * v - u - v * (x - x % m) := by
          rw [hu, Int.mul_sub, Int.mul_comm x v]
          omega
        rw [h3]
        exact Int.dvd_sub d1 h2
      · simp only [mj_lcm] at c
        exact absurd ((jL_le (a := 0) (b := 0) (by decide) (by decide) (by decide) (by decide)).2 (by omega)) c
    | succ n ih =>
      rintro x y u r xL yL uL rL q12 q13 q14 q15 hn u0 r0 u1 r1 x1 hs hu0 hsg d1 d2 hgg rfl rfl rfl rfl
      by_cases hr : r = 0
      · exact ih x y u r _ _ _ _ _ _ _ _ (by omega) u0 r0 u1 r1 x1 hs hu0 hsg d1 d2 hgg rfl rfl rfl rfl
      have hq0 : 0 ≤ u / r := Int.ediv_nonneg u0 r0
      have hmod := Int.emod_add_mul_ediv u r
      have hm0 : 0 ≤ u % r := Int.emod_nonneg _ hr
      have hm1 : u % r < r := Int.emod_lt_of_pos _ (by omega)
      obtain ⟨q, hq⟩ : ∃ q, q = u / r := ⟨_, rfl⟩
      rw [← hq] at hq0 hmod
      obtain ⟨t, ht⟩ : ∃ t, t = u % r := ⟨_, rfl⟩
      rw [← ht] at hm0 hm1 hmod
      have hqe : (jL u) / (jL r) = jL q := by
        rw [jL_div (by omega) (by omega) (by omega) (by omega), Int.tdiv_eq_ediv_of_nonneg u0, hq]
      have r62 : ∀ (xL tL : Int64) (q12 q13 : Option Value), xL = jL y → tL = jL (x - q * y) → Run 62 (l209 (jL v) (jL m) xL (jL y) (jL r) (jL t) q12 q13 (some (.long tL)) none) [] h (0, 0) := by
        rintro xL tL q12 q13 rfl rfl
        refine hR 60 36 _ _ _ _ _ _ rfl ?_
        have hyu : (y.natAbs : Int) * u = (y.natAbs : Int) * t + (y.natAbs : Int) * r * q := by
          rw [← hmod, Int.mul_add, Int.mul_assoc]
        have hxy : ((x - q * y).natAbs : Int) = x.natAbs + q * y.natAbs := by
          rcases hsg with ⟨a, b⟩ | ⟨a, b⟩
          · have h1 : 0 ≤ q * (y.natAbs : Int) := Int.mul_nonneg hq0 (by omega)
            have h2 : y = -(y.natAbs : Int) := by omega
            have h3 : x - q * y = x + q * (y.natAbs : Int) := by
              rw [show q * y = q * -(y.natAbs : Int) by rw [← h2], Int.mul_neg]
              omega
            rw [h3]
            omega
          · have h1 : 0 ≤ q * (y.natAbs : Int) := Int.mul_nonneg hq0 (by omega)
            have h2 : y = (y.natAbs : Int) := by omega
            have h3 : x - q * y = x - q * (y.natAbs : Int) := by rw [← h2]
            rw [h3]
            omega
        have hylem : (y.natAbs : Int) ≤ m := by
          by_cases z : u = 0
          · rw [hu0 z]
            omega
          · have h1 : (y.natAbs : Int) * 1 ≤ (y.natAbs : Int) * u := Int.mul_le_mul_of_nonneg_left (by omega) (by omega)
            have h2 : 0 ≤ (x.natAbs : Int) * r := Int.mul_nonneg (by omega) r0
            omega
        refine ih y (x - q * y) r t _ _ _ _ _ _ _ _ (by omega) r0 hm0 r1 (by omega) hylem ?_ (fun z => absurd z hr) ?_ d2 ?_ ?_ rfl rfl rfl rfl
        · rw [hxy, Int.add_mul, show q * (y.natAbs : Int) * r = (y.natAbs : Int) * r * q by rw [Int.mul_comm q, Int.mul_assoc, Int.mul_comm q, ← Int.mul_assoc]]
          omega
        · rcases hsg with ⟨a, b⟩ | ⟨a, b⟩
          · right
            have h1 : 0 ≤ q * -y := Int.mul_nonneg hq0 (by omega)
            rw [Int.mul_neg] at h1
            omega
          · left
            have h1 : 0 ≤ q * y := Int.mul_nonneg hq0 (by omega)
            omega
        · have h1 : (x - q * y) * v - t = (x * v - u) - q * (y * v - r) := by
            rw [← hmod, Int.sub_mul, Int.mul_sub, Int.mul_assoc, Int.mul_comm r q]
            omega
          rw [h1]
          exact Int.dvd_sub d1 (Int.dvd_trans d2 (Int.dvd_mul_left _ _))
        · have h9 := Int.gcd_add_mul_left_left r t q
          rw [hmod] at h9
          rw [Int.gcd_comm, ← h9]
          exact hgg
      have r58 : ∀ (tL : Int64) (q12 q13 : Option Value), tL = jL (x - q * y) → Run 58 (l209 (jL v) (jL m) (jL x) (jL y) (jL r) (jL t) q12 q13 (some (.long tL)) none) [] h (0, 0) := by
        rintro tL q12 q13 e
        refine hR 60 34 _ _ _ _ _ _ rfl ?_
        exact r62 _ _ _ _ rfl e
      have r48 : ∀ (rL qL : Int64) (q14 q15 : Option Value), rL = jL t → qL = jL q → Run 48 (l209 (jL v) (jL m) (jL x) (jL y) (jL r) rL (some (.long qL)) none q14 q15) [] h (0, 0) := by
        rintro rL qL q14 q15 rfl rfl
        refine hR 60 28 _ _ _ _ _ _ rfl ?_
        exact r58 _ _ _ (by rw [jL_mul, jL_sub])
      have r44 : ∀ (uL qL tL : Int64), uL = jL r → qL = jL q → tL = jL t → Run 44 (l209 (jL v) (jL m) (jL x) (jL y) uL (jL r) (some (.long qL)) none (some (.long tL)) none) [] h (0, 0) := by
        rintro uL qL tL rfl e e2
        refine hR 60 26 _ _ _ _ _ _ rfl ?_
        exact r48 _ _ _ _ e2 e
      have r40 : ∀ (qL tL : Int64), qL = jL q → tL = jL t → Run 40 (l209 (jL v) (jL m) (jL x) (jL y) (jL u) (jL r) (some (.long qL)) none (some (.long tL)) none) [] h (0, 0) := by
        intro qL tL e e2
        refine hR 60 24 _ _ _ _ _ _ rfl ?_
        exact r44 _ _ _ rfl e e2
      have r30 : ∀ (qL : Int64) (q14 q15 : Option Value), qL = jL q → Run 30 (l209 (jL v) (jL m) (jL x) (jL y) (jL u) (jL r) (some (.long qL)) none q14 q15) [] h (0, 0) := by
        rintro qL q14 q15 rfl
        refine hR 60 18 _ _ _ _ _ _ rfl ?_
        refine r40 _ _ rfl ?_
        rw [jL_mul, jL_sub, ← hmod, Int.mul_comm r q]
        congr 1
        omega
      refine hR 60 10 _ _ _ _ _ _ rfl ?_
      refine ⟨fun c => ?_, fun c => ⟨?_, ?_⟩⟩
      · simp only [mj_lcm] at c
        have c' : jL r ≤ jL 0 := c
        rw [jL_le (by omega) (by omega) (by omega) (by omega)] at c'
        omega
      · intro z
        have z' : jL r = jL 0 := z
        rw [jL_eq (by omega) (by omega) (by omega) (by omega)] at z'
        omega
      · exact r30 _ _ _ hqe
  have r13 : ∀ (uL : Int64) (q10 q11 q12 q13 q14 q15 : Option Value), uL = jL (v % m) → Run 13 [some (.long (jL v)), none, some (.long (jL m)), none, some (.long (jL 1)), none, some (.long (jL 0)), none, some (.long uL), none, q10, q11, q12, q13, q14, q15] [] h (0, 0) := by
    rintro uL q10 q11 q12 q13 q14 q15 rfl
    refine hR 60 8 _ _ _ _ _ _ rfl ?_
    have hm0 : 0 ≤ v % m := Int.emod_nonneg _ (by omega)
    have hm1 : v % m < m := Int.emod_lt_of_pos _ (by omega)
    refine r16 m.toNat 1 0 (v % m) m _ _ _ _ _ _ _ _ (Nat.le_refl _) hm0 (by omega) (by omega) (by omega) (by show (1 : Int) ≤ m; omega) ?_ (fun _ => rfl) (Or.inl ⟨by decide, by decide⟩) ?_ ?_ ?_ rfl rfl rfl rfl
    · show (0 : Int) * (v % m) + 1 * m = m
      omega
    · exact ⟨v / m, by have := Int.emod_add_mul_ediv v m; omega⟩
    · exact ⟨-1, by omega⟩
    · have h9 := Int.gcd_add_mul_left_left m (v % m) (v / m)
      rw [Int.emod_add_mul_ediv] at h9
      rw [← h9]
      exact hg
  have r6 : ∀ (q8 q9 q10 q11 q12 q13 q14 q15 : Option Value), Run 6 [some (.long (jL v)), none, some (.long (jL m)), none, some (.long (jL 1)), none, some (.long (jL 0)), none, q8, q9, q10, q11, q12, q13, q14, q15] [] h (0, 0) := by
    intro q8 q9 q10 q11 q12 q13 q14 q15
    refine hR 60 4 _ _ _ _ _ _ rfl ?_
    refine jcall (ct_200 G (x := v) (y := m) (by omega) (by omega) (by omega) (by omega) h) ?_
    exact r13 _ _ _ _ _ _ _ rfl
  refine hR 60 0 _ _ _ _ _ _ rfl ?_
  exact r6 _ _ _ _ _ _ _ _
