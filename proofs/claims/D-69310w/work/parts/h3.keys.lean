/-! below 0: solutions and their keys -/
/-- all automorphs below 0 -/
theorem autN {F : Fm} {d t u : Int} (hd : d < 0) (hdd : isDd d) (hn : nsq d) (hV : Vld d F) (h : unN d t u) {W : mxI} (hW : dM W = 1) (hac : acM F W = F) {z : xI} (hz : z ≠ (0, 0)) (w : xI) : inO F t u (mv W z) w ↔ inO F t u z w := by
  have hD := hV.1
  have hp := unN_pell h
  have hdV := auM_det (f := F) hD hp
  obtain ⟨p, q, r, s⟩ := W
  obtain ⟨a, b, c⟩ := F
  have hW' : p * s - q * r = 1 := hW
  obtain ⟨S, r1, r2, r3⟩ := aut_form (vld_1 hn hV) hV.2.1 hW' hac
  have hpell := aut_pell hW' r1 r2 r3
  have hD' : b * b - 4 * a * c = d := hD
  rw [hD'] at hpell
  -- the matrix out of its trace and S
  have mat : ∀ (ε T0 S0 : Int), (ε = 1 ∨ ε = -1) → p + s = ε * T0 → S = ε * S0 → ((p, q, r, s) : mxI) = sgM ε (auM (a, b, c) T0 S0) := by
    intro ε T0 S0 hε hT hS
    subst hS
    have e1 : 2 * p = ε * (T0 - b * S0) := by
      have : b * (ε * S0) = ε * (b * S0) := by grind
      have e2 : ε * (T0 - b * S0) = ε * T0 - ε * (b * S0) := by grind
      omega
    have e2 : 2 * s = ε * (T0 + b * S0) := by
      have : b * (ε * S0) = ε * (b * S0) := by grind
      have e2 : ε * (T0 + b * S0) = ε * T0 + ε * (b * S0) := by grind
      omega
    refine mx_ext ?_ ?_ ?_ ?_
    · show p = ε * ((T0 - b * S0) / 2)
      rcases hε with rfl | rfl <;> omega
    · show q = ε * (-c * S0)
      rw [r2]
      grind
    · show r = ε * (a * S0)
      rw [r1]
      grind
    · show s = ε * ((T0 + b * S0) / 2)
      rcases hε with rfl | rfl <;> omega
  have hS2 : (-d) * (S * S) ≤ 4 := by
    have := sqn (p + s)
    have e : (-d) * (S * S) = -(d * (S * S)) := by grind
    omega
  have sgl : ∀ (ε : Int) (m : mxI), (ε = 1 ∨ ε = -1) → dM m = 1 → (inO (a, b, c) t u (mv (sgM ε m) z) w ↔ inO (a, b, c) t u (mv m z) w) := by
    intro ε m hε hm
    have e1 : mv (sgM ε m) z = (ε * (mv m z).1, ε * (mv m z).2) := by
      refine Prod.ext ?_ ?_ <;> (simp only [mv, sgM]; grind)
    rw [e1]
    rcases hε with rfl | rfl
    · rw [Int.one_mul, Int.one_mul]
    · rw [Int.neg_one_mul, Int.neg_one_mul]
      exact inO_neg hD hp (mv_ne hm hz) w
  -- trace two
  have id2 : S = 0 → (inO (a, b, c) t u (mv (p, q, r, s) z) w ↔ inO (a, b, c) t u z w) := by
    intro hS0
    have hT : p + s = 2 ∨ p + s = -2 := by
      rw [hS0] at hpell
      have e4 : (p + s) * (p + s) = 4 := by omega
      have h1 : (p + s).natAbs * (p + s).natAbs = 4 := by
        have := abs_sq (p + s)
        have e5 : (((p + s).natAbs * (p + s).natAbs : Nat) : Int) = 4 := by
          rw [Int.natCast_mul, this, e4]
        omega
      have h2 : (p + s).natAbs = 2 := by
        rcases Nat.lt_trichotomy (p + s).natAbs 2 with y | y | y
        · have := Nat.mul_le_mul (show (p + s).natAbs ≤ 1 by omega) (show (p + s).natAbs ≤ 1 by omega)
          omega
        · exact y
        · have := Nat.mul_le_mul (show 3 ≤ (p + s).natAbs by omega) (show 3 ≤ (p + s).natAbs by omega)
          omega
      omega
    have one : auM (a, b, c) 2 0 = I2 := by
      unfold auM I2
      simp only [Int.mul_zero, Int.sub_zero, Int.add_zero]
      rfl
    rcases hT with y | y
    · rw [mat 1 2 0 (Or.inl rfl) (by omega) (by omega), one, sgl 1 I2 (Or.inl rfl) rfl, mv_one]
    · rw [mat (-1) 2 0 (Or.inr rfl) (by omega) (by omega), one, sgl (-1) I2 (Or.inr rfl) rfl, mv_one]
  have viaV : ∀ ε : Int, (ε = 1 ∨ ε = -1) → p + s = ε * t → S = ε * u → (inO (a, b, c) t u (mv (p, q, r, s) z) w ↔ inO (a, b, c) t u z w) := by
    intro ε hε h1 h2
    rw [mat ε t u hε h1 h2, sgl ε _ hε hdV]
    exact inO_V hd hdd hD h hz w
  unfold isDd at hdd
  have hc : d = -3 ∨ d = -4 ∨ d < -4 := by omega
  have sab : S * S = (S.natAbs : Int) * S.natAbs := (abs_sq S).symm
  rcases hc with c3 | c4 | c5
  · subst c3
    have ht : t = 1 := h.1
    have hu : u = 1 := h.2
    have hS1 : S.natAbs ≤ 1 := by
      rcases Nat.lt_or_ge 1 S.natAbs with y | y
      · have := Nat.mul_le_mul y y
        have e5 : (((S.natAbs * S.natAbs : Nat)) : Int) = S * S := by rw [Int.natCast_mul]; exact abs_sq S
        omega
      · exact y
    have hT1 : S ≠ 0 → (p + s) = 1 ∨ (p + s) = -1 := by
      intro hS0
      have e5 : S * S = 1 := by
        have : S = 1 ∨ S = -1 := by omega
        rcases this with y | y <;> rw [y] <;> rfl
      rw [e5] at hpell
      have e4 : (p + s) * (p + s) = 1 := by omega
      have h1 : (p + s).natAbs * (p + s).natAbs = 1 := by
        have := abs_sq (p + s)
        have e6 : (((p + s).natAbs * (p + s).natAbs : Nat) : Int) = 1 := by
          rw [Int.natCast_mul, this, e4]
        omega
      have h2 : (p + s).natAbs = 1 := Nat.eq_one_of_mul_eq_one_right h1
      omega
    have hS3 : S = 0 ∨ S = 1 ∨ S = -1 := by omega
    -- the inverse of V
    have viaI : ∀ ε : Int, (ε = 1 ∨ ε = -1) → p + s = ε * t → S = ε * (-u) → (inO (a, b, c) t u (mv (p, q, r, s) z) w ↔ inO (a, b, c) t u z w) := by
      intro ε hε h1 h2
      have e7 : auM (a, b, c) t (-u) = ivM (auM (a, b, c) t u) := by
        refine mx_ext ?_ ?_ ?_ ?_
        · show (t - b * -u) / 2 = (t + b * u) / 2
          congr 1
          grind
        · show -c * -u = -(-c * u)
          grind
        · show a * -u = -(a * u)
          grind
        · show (t + b * -u) / 2 = (t - b * u) / 2
          congr 1
          grind
      have hiv : dM (ivM (auM (a, b, c) t u)) = 1 := by rw [dM_iv]; exact hdV
      rw [mat ε t (-u) hε h1 h2, e7, sgl ε _ hε hiv]
      have := inO_V hd (by unfold isDd; exact hdd) hD h (mv_ne hiv hz) w
      rw [← mv_mm, mm_iv hdV, mv_one] at this
      exact this.symm
    rcases hS3 with y | y | y
    · exact id2 y
    · rcases hT1 (by omega) with x | x
      · exact viaV 1 (Or.inl rfl) (by omega) (by omega)
      · exact viaI (-1) (Or.inr rfl) (by omega) (by omega)
    · rcases hT1 (by omega) with x | x
      · exact viaI 1 (Or.inl rfl) (by omega) (by omega)
      · exact viaV (-1) (Or.inr rfl) (by omega) (by omega)
  · subst c4
    have ht : t = 0 := h.1
    have hu : u = 1 := h.2
    have hS1 : S.natAbs ≤ 1 := by
      rcases Nat.lt_or_ge 1 S.natAbs with y | y
      · have := Nat.mul_le_mul y y
        have e5 : (((S.natAbs * S.natAbs : Nat)) : Int) = S * S := by rw [Int.natCast_mul]; exact abs_sq S
        omega
      · exact y
    have hT1 : S ≠ 0 → (p + s) = 0 := by
      intro hS0
      have e5 : S * S = 1 := by
        have : S = 1 ∨ S = -1 := by omega
        rcases this with y | y <;> rw [y] <;> rfl
      rw [e5] at hpell
      have e4 : (p + s) * (p + s) = 0 := by omega
      rcases Int.mul_eq_zero.1 e4 with y | y <;> exact y
    have hS3 : S = 0 ∨ S = 1 ∨ S = -1 := by omega
    rcases hS3 with y | y | y
    · exact id2 y
    · exact viaV 1 (Or.inl rfl) (by rw [hT1 (by omega), ht]; rfl) (by omega)
    · exact viaV (-1) (Or.inr rfl) (by rw [hT1 (by omega), ht]; rfl) (by omega)
  · refine id2 ?_
    rcases Int.lt_trichotomy S 0 with y | y | y
    · exfalso
      have : 5 * 1 ≤ (-d) * (S * S) := Int.mul_le_mul (by omega) (by
        have := Int.mul_le_mul_of_nonneg_left (show (1 : Int) ≤ -S by omega) (show (0 : Int) ≤ -S by omega)
        have e6 : -S * -S = S * S := Int.neg_mul_neg _ _
        omega) (by decide) (by omega)
      omega
    · exact y
    · exfalso
      have : 5 * 1 ≤ (-d) * (S * S) := Int.mul_le_mul (by omega) (by
        have := Int.mul_le_mul_of_nonneg_left (show (1 : Int) ≤ S by omega) (show (0 : Int) ≤ S by omega)
        omega) (by decide) (by omega)
      omega
/-- a solution, its divisor and a matrix -/
theorem sol_parts {F : Fm} {z : xI} {n : Int} (hn : n ≠ 0) (h : evF F z.1 z.2 = n) : ∃ (g : Nat) (x y q s : Int), 0 < g ∧ Int.gcd z.1 z.2 = g ∧ z = ((g : Int) * x, (g : Int) * y) ∧ x * s - y * q = 1 ∧ n = ((g : Int) * g) * evF F x y := by
  have hz : ¬ (z.1 = 0 ∧ z.2 = 0) := fun q => ne_of_ev hn h (Prod.ext q.1 q.2)
  have g0 : 0 < Int.gcd z.1 z.2 := by
    rcases Nat.eq_zero_or_pos (Int.gcd z.1 z.2) with y | y
    · exact (hz (Int.gcd_eq_zero_iff.1 y)).elim
    · exact y
  obtain ⟨x, hx⟩ := Int.gcd_dvd_left z.1 z.2
  obtain ⟨y, hy⟩ := Int.gcd_dvd_right z.1 z.2
  obtain ⟨u, v, huv⟩ := bez z.1 z.2
  generalize Int.gcd z.1 z.2 = g at *
  have hz' : z = ((g : Int) * x, (g : Int) * y) := Prod.ext hx hy
  refine ⟨g, x, y, -v, u, g0, rfl, hz', ?_, ?_⟩
  · rw [hx, hy] at huv
    have e : (g : Int) * (x * u - y * -v) = (g : Int) * 1 := by grind
    exact Int.eq_of_mul_eq_mul_left (by omega) e
  · rw [← h, hz']
    unfold evF
    grind
/-- the root does not hang on the matrix -/
theorem root_mod {F : Fm} {x y q s q' s' : Int} (h : x * s - y * q = 1) (h' : x * s' - y * q' = 1) : rootE F x y q' s' % (2 * evF F x y) = rootE F x y q s % (2 * evF F x y) := by
  refine Int.emod_eq_emod_iff_emod_sub_eq_zero.2 (Int.emod_eq_zero_of_dvd ?_)
  refine ⟨s * q' - q * s', ?_⟩
  -- q' = q + k x, s' = s + k y
  have e1 : q' = q + (s * q' - q * s') * x := by
    have : q + (s * q' - q * s') * x = q' * (x * s - y * q) + q * (1 - (x * s' - y * q')) := by grind
    rw [this, h, h']
    omega
  have e2 : s' = s + (s * q' - q * s') * y := by
    have : s + (s * q' - q * s') * y = s' * (x * s - y * q) + s * (1 - (x * s' - y * q')) := by grind
    rw [this, h, h']
    omega
  generalize s * q' - q * s' = k at *
  rw [e1, e2]
  unfold rootE evF
  grind
theorem root_ac (F : Fm) (x y q s : Int) : rootE F x y q s = (acF F x q y s).2.1 := by
  simp only [rootE, acF]
  grind
theorem root_neg (F : Fm) (x y q s : Int) : rootE F (-x) (-y) (-q) (-s) = rootE F x y q s := by
  unfold rootE
  grind
