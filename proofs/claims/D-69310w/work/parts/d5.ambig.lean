/-! classes of order two: forms (a, 0, c) and (a, a, c) -/
theorem amb_rel {a b c p q r s : Int} (ha : a ≠ 0) (hdet : p * s - q * r = 1) (h1 : a * p * p + b * p * r + c * r * r = a) (h2 : 2 * a * p * q + b * (p * s + q * r) + 2 * c * r * s = -b) : p = s ∧ a * q + b * p + c * r = 0 := by
  have e1 : (2 * a * p + b * r) * (p * s - q * r) = 2 * s * (a * p * p + b * p * r + c * r * r) - r * (2 * a * p * q + b * (p * s + q * r) + 2 * c * r * s) := by grind
  rw [hdet, h1, h2] at e1
  have e2 : a * (p - s) = 0 := by grind
  have e3 : p = s := by
    rcases Int.mul_eq_zero.1 e2 with z | z
    · exact absurd z ha
    · omega
  have e4 : (b * p + 2 * c * r) * (p * s - q * r) = p * (2 * a * p * q + b * (p * s + q * r) + 2 * c * r * s) - 2 * q * (a * p * p + b * p * r + c * r * r) := by grind
  rw [hdet, h1, h2] at e4
  exact ⟨e3, by grind⟩
theorem prim_vec {m n : Int} (h : m ≠ 0 ∨ n ≠ 0) : ∃ g x y u v : Int, g ≠ 0 ∧ m = g * x ∧ n = g * y ∧ u * x + v * y = 1 := by
  obtain ⟨u, v, huv⟩ := bez m n
  have g0 : (Int.gcd m n : Int) ≠ 0 := by
    intro z
    have z' : Int.gcd m n = 0 := by omega
    rw [Int.gcd_eq_zero_iff] at z'
    rcases h with q | q
    · exact q z'.1
    · exact q z'.2
  obtain ⟨x, hx⟩ := Int.gcd_dvd_left m n
  obtain ⟨y, hy⟩ := Int.gcd_dvd_right m n
  refine ⟨Int.gcd m n, x, y, u, v, g0, hx, hy, ?_⟩
  refine Int.eq_of_mul_eq_mul_left g0 ?_
  rw [Int.mul_one]
  obtain ⟨g, hg⟩ : ∃ g : Int, (Int.gcd m n : Int) = g := ⟨_, rfl⟩
  rw [hg] at hx hy huv ⊢
  rw [hx, hy] at huv
  grind
theorem fix_vec {p q r : Int} (h : p * p - q * r = 1) : ∃ x y u v : Int, u * x + v * y = 1 ∧ q * y = (p - 1) * x ∧ r * x = (p + 1) * y := by
  by_cases c : p + 1 ≠ 0 ∨ r ≠ 0
  · obtain ⟨g, x, y, u, v, g0, h1, h2, h3⟩ := prim_vec c
    refine ⟨x, y, u, v, h3, ?_, ?_⟩
    · refine Int.eq_of_mul_eq_mul_left g0 ?_
      have e : g * (q * y) = q * r := by rw [h2]; grind
      have e' : g * ((p - 1) * x) = (p - 1) * (p + 1) := by rw [h1]; grind
      rw [e, e']
      grind
    · rw [h1, h2]
      grind
  · have c1 : p = -1 := by omega
    have c2 : r = 0 := by omega
    subst c1
    subst c2
    obtain ⟨g, x, y, u, v, g0, h1, h2, h3⟩ := prim_vec (m := q) (n := -2) (Or.inr (by decide))
    refine ⟨x, y, u, v, h3, ?_, ?_⟩
    · have e : -1 - 1 = g * y := h2
      rw [e, h1]
      grind
    · rw [Int.zero_mul]
      rw [show (-1 : Int) + 1 = 0 from rfl, Int.zero_mul]
theorem amb_mid {a b c p q r x y z t : Int} (hrel : a * q + b * p + c * r = 0) (h1 : q * y = (p - 1) * x) (h2 : r * x = (p + 1) * y) (hd : x * t - z * y = 1) : 2 * a * x * z + b * (x * t + z * y) + 2 * c * y * t = (2 * p * t * z - q * t * t - r * z * z) * (a * x * x + b * x * y + c * y * y) := by
  obtain ⟨k, hk⟩ : ∃ k, 2 * p * t * z - q * t * t - r * z * z = k := ⟨_, rfl⟩
  have k1 : k * x = (p + 1) * z - q * t := by
    have e : k * x = 2 * p * z * (x * t) - q * t * (x * t) - (r * x) * (z * z) := by rw [← hk]; grind
    have e2 : x * t = 1 + z * y := by omega
    have e3 : 2 * p * z * (1 + z * y) - q * t * (1 + z * y) - (p + 1) * y * (z * z) = 2 * p * z + (p - 1) * y * z * z - q * t - (q * y) * t * z := by grind
    rw [e, h2, e2, e3, h1]
    have e4 : 2 * p * z + (p - 1) * y * z * z - q * t - (p - 1) * x * t * z = 2 * p * z - q * t - (p - 1) * z * (x * t - z * y) := by grind
    rw [e4, hd]
    grind
  have k2 : k * y = r * z + (1 - p) * t := by
    have e : k * y = 2 * p * t * (z * y) - (q * y) * (t * t) - r * z * (z * y) := by rw [← hk]; grind
    have e2 : z * y = x * t - 1 := by omega
    have e3 : 2 * p * t * (x * t - 1) - (p - 1) * x * (t * t) - r * z * (x * t - 1) = (p + 1) * x * t * t - 2 * p * t - (r * x) * z * t + r * z := by grind
    rw [e, h1, e2, e3, h2]
    have e4 : (p + 1) * x * t * t - 2 * p * t - (p + 1) * y * z * t + r * z = (p + 1) * t * (x * t - z * y) - 2 * p * t + r * z := by grind
    rw [e4, hd]
    grind
  rw [hk]
  have e5 : 2 * (k * (a * x * x + b * x * y + c * y * y)) = 2 * a * x * (k * x) + b * (x * (k * y) + y * (k * x)) + 2 * c * y * (k * y) := by grind
  rw [k1, k2] at e5
  have e6 : 2 * a * x * ((p + 1) * z - q * t) + b * (x * (r * z + (1 - p) * t) + y * ((p + 1) * z - q * t)) + 2 * c * y * (r * z + (1 - p) * t) = 2 * (2 * a * x * z + b * (x * t + z * y) + 2 * c * y * t) + (2 * a * (((p - 1) * x) * z - q * (x * t)) + b * ((r * x) * z + (1 - p) * (x * t) + (p + 1) * (z * y) - (q * y) * t - 2 * (x * t) - 2 * (z * y)) + 2 * c * (r * (z * y) - ((p + 1) * y) * t)) := by grind
  rw [← h1, ← h2] at e6
  have e7 : 2 * a * (q * y * z - q * (x * t)) + b * (r * x * z + (1 - p) * (x * t) + (p + 1) * (z * y) - q * y * t - 2 * (x * t) - 2 * (z * y)) + 2 * c * (r * (z * y) - r * x * t) = -2 * (a * q) * (x * t - z * y) + b * ((r * x) * z + (1 - p) * (x * t) + (p + 1) * (z * y) - (q * y) * t - 2 * (x * t) - 2 * (z * y)) - 2 * (c * r) * (x * t - z * y) := by grind
  rw [e7, h1, h2] at e6
  have e8 : (p + 1) * y * z + (1 - p) * (x * t) + (p + 1) * (z * y) - (p - 1) * x * t - 2 * (x * t) - 2 * (z * y) = -2 * p * (x * t - z * y) := by grind
  rw [e8, hd] at e6
  rw [e6] at e5
  have e9 : -2 * (a * q) * 1 + b * (-2 * p * 1) - 2 * (c * r) * 1 = -2 * (a * q + b * p + c * r) := by grind
  rw [e9, hrel] at e5
  omega
/-- a class that is its own inverse -/
theorem amb_form {d : Int} {f : Fm} (hn : nsq d) (hV : Vld d f) (he : Eqv f (f.1, -f.2.1, f.2.2)) : ∃ A C : Int, (Eqv f (A, 0, C) ∧ 0 < A) ∨ Eqv f (A, A, C) := by
  obtain ⟨p, q, r, s, hdet, hac⟩ := he
  have ha := vld_1 hn hV
  obtain ⟨a, b, c⟩ := f
  have a1 : a = a * p * p + b * p * r + c * r * r := congrArg (fun f : Fm => f.1) hac
  have a2 : -b = 2 * a * p * q + b * (p * s + q * r) + 2 * c * r * s := congrArg (fun f : Fm => f.2.1) hac
  obtain ⟨e1, e2⟩ := amb_rel (a := a) ha hdet a1.symm a2.symm
  subst e1
  obtain ⟨x, y, u, v, f1, f2, f3⟩ := fix_vec hdet
  have hd1 : x * u - (-v) * y = 1 := by rw [← f1]; grind
  have hm := amb_mid e2 f2 f3 hd1
  obtain ⟨k, hk⟩ : ∃ k, 2 * p * u * (-v) - q * u * u - r * (-v) * (-v) = k := ⟨_, rfl⟩
  rw [hk] at hm
  have E1 : Eqv (a, b, c) (acF (a, b, c) x (-v) y u) := ⟨x, -v, y, u, hd1, rfl⟩
  obtain ⟨A0, hA0⟩ : ∃ A0, a * x * x + b * x * y + c * y * y = A0 := ⟨_, rfl⟩
  obtain ⟨C0, hC0⟩ : ∃ C0, a * (-v) * (-v) + b * (-v) * u + c * u * u = C0 := ⟨_, rfl⟩
  have e3 : acF (a, b, c) x (-v) y u = (A0, k * A0, C0) := by
    show (a * x * x + b * x * y + c * y * y, 2 * a * x * (-v) + b * (x * u + (-v) * y) + 2 * c * y * u, a * (-v) * (-v) + b * (-v) * u + c * u * u) = _
    rw [hm, hA0, hC0]
  rw [e3] at E1
  have E2 := eqv_slide A0 (k * A0) C0 (-(k / 2))
  obtain ⟨C1, hC1⟩ : ∃ C1, A0 * -(k / 2) * -(k / 2) + k * A0 * -(k / 2) + C0 = C1 := ⟨_, rfl⟩
  have e4 : k * A0 + 2 * A0 * -(k / 2) = (k % 2) * A0 := by
    have : k = 2 * (k / 2) + k % 2 := by omega
    obtain ⟨h, hh⟩ : ∃ h, k / 2 = h := ⟨_, rfl⟩
    obtain ⟨m, hmm⟩ : ∃ m, k % 2 = m := ⟨_, rfl⟩
    rw [hh, hmm] at this ⊢
    rw [this]
    grind
  rw [hC1, e4] at E2
  have E3 := eqv_trans E1 E2
  have k2 : k % 2 = 0 ∨ k % 2 = 1 := by omega
  rcases k2 with z | z
  · rw [z, Int.zero_mul] at E3
    have V3 := vld_eqv E3 hV
    have D3 : 0 * 0 - 4 * A0 * C1 = d := V3.1
    have A0n : A0 ≠ 0 := vld_1 hn V3
    rcases Int.lt_or_le 0 A0 with y' | y'
    · exact ⟨A0, C1, Or.inl ⟨E3, y'⟩⟩
    · refine ⟨C1, A0, Or.inl ⟨eqv_trans E3 ⟨0, -1, 1, 0, by decide, ?_⟩, ?_⟩⟩
      · show (C1, 0, A0) = (A0 * 0 * 0 + 0 * 0 * 1 + C1 * 1 * 1, 2 * A0 * 0 * (-1) + 0 * (0 * 0 + (-1) * 1) + 2 * C1 * 1 * 0, A0 * (-1) * (-1) + 0 * (-1) * 0 + C1 * 0 * 0)
        simp only [Prod.mk.injEq]
        refine ⟨by grind, by grind, by grind⟩
      · have hd : 0 < d := by
          rcases Int.lt_trichotomy d 0 with q' | q' | q'
          · have : 0 < A0 := V3.2.2 q'
            omega
          · exact (hn 0 (by rw [q']; rfl)).elim
          · exact q'
        have : 4 * A0 * C1 = 4 * (A0 * C1) := by grind
        have h1 : A0 * C1 < 0 := by omega
        rcases Int.lt_or_le 0 C1 with q' | q'
        · exact q'
        · have := Int.mul_nonneg_of_nonpos_of_nonpos (a := A0) (b := C1) (by omega) q'
          omega
  · rw [z, Int.one_mul] at E3
    exact ⟨A0, C1, Or.inr E3⟩
/-- two ways to part a number, with the same odd primes -/
theorem two_part {A B A' B' : Nat} (h : A * B = A' * B') (hA : 0 < A) (hA' : 0 < A') (o1 : ∀ p, Pr p → p % 2 = 1 → p ∣ A → p ∣ B → False) (o2 : ∀ p, Pr p → p % 2 = 1 → p ∣ A' → p ∣ B' → False) (hs : ∀ p, Pr p → p % 2 = 1 → (p ∣ A ↔ p ∣ A')) : ∃ g x y : Nat, A = g * x ∧ A' = g * y ∧ x * B = y * B' ∧ ((x = 1 ∧ y = 1) ∨ (2 ∣ x ∧ y = 1) ∨ (2 ∣ y ∧ x = 1)) := by
  have g0 : 0 < Nat.gcd A A' := Nat.gcd_pos_of_pos_left _ hA
  obtain ⟨x, hx⟩ := Nat.gcd_dvd_left A A'
  obtain ⟨y, hy⟩ := Nat.gcd_dvd_right A A'
  have cop := gcd_one g0 hx hy
  obtain ⟨g, hg⟩ : ∃ g, Nat.gcd A A' = g := ⟨_, rfl⟩
  rw [hg] at g0 hx hy
  have e : x * B = y * B' := by
    refine Nat.eq_of_mul_eq_mul_left g0 ?_
    rw [← Nat.mul_assoc, ← Nat.mul_assoc, ← hx, ← hy, h]
  have xB : x ∣ B' := Nat.Coprime.dvd_of_dvd_mul_left cop ⟨B, by rw [← e]⟩
  have yB : y ∣ B := Nat.Coprime.dvd_of_dvd_mul_left (Nat.Coprime.symm cop) ⟨B', by rw [e]⟩
  have xA : x ∣ A := ⟨g, by rw [hx, Nat.mul_comm]⟩
  have yA : y ∣ A' := ⟨g, by rw [hy, Nat.mul_comm]⟩
  have two : ∀ z : Nat, 0 < z → (∀ p, Pr p → p % 2 = 1 → p ∣ z → False) → z = 1 ∨ 2 ∣ z := by
    intro z hz hp
    rcases Nat.lt_or_ge z 2 with q | q
    · left
      omega
    · right
      obtain ⟨p, p1, p2⟩ := ex_pr z z (Nat.le_refl _) q
      have hp2 : p % 2 ≠ 1 := fun z' => hp p p1 z' p2
      have : 2 ∣ p := by omega
      exact Nat.dvd_trans this p2
  have x0 : 0 < x := by
    rcases Nat.eq_zero_or_pos x with q | q
    · subst q
      omega
    · exact q
  have y0 : 0 < y := by
    rcases Nat.eq_zero_or_pos y with q | q
    · subst q
      omega
    · exact q
  have tx := two x x0 (fun p p1 p2 p3 => o2 p p1 p2 ((hs p p1 p2).1 (Nat.dvd_trans p3 xA)) (Nat.dvd_trans p3 xB))
  have ty := two y y0 (fun p p1 p2 p3 => o1 p p1 p2 ((hs p p1 p2).2 (Nat.dvd_trans p3 yA)) (Nat.dvd_trans p3 yB))
  refine ⟨g, x, y, hx, hy, e, ?_⟩
  rcases tx with tx | tx <;> rcases ty with ty | ty
  · exact Or.inl ⟨tx, ty⟩
  · exact Or.inr (Or.inr ⟨ty, tx⟩)
  · exact Or.inr (Or.inl ⟨tx, ty⟩)
  · exfalso
    have := Nat.dvd_gcd tx ty
    rw [cop] at this
    omega
theorem cop_nd {A C : Int} (h : ∃ u v : Int, u * A + v * C = 1) {p : Nat} (hp : 2 ≤ p) (h1 : (p : Int) ∣ A) (h2 : (p : Int) ∣ C) : False := by
  obtain ⟨u, v, e⟩ := h
  have : (p : Int) ∣ 1 := by
    rw [← e]
    exact Int.dvd_add (Int.dvd_mul_of_dvd_right h1) (Int.dvd_mul_of_dvd_right h2)
  have := Int.le_of_dvd (by decide) this
  omega
theorem amb_inj0 {A C A' C' : Int} (hA : 0 < A) (hA' : 0 < A') (D : A * C = A' * C') (c1 : ∃ u v : Int, u * A + v * C = 1) (c2 : ∃ u v : Int, u * A' + v * C' = 1) (par : A % 2 = A' % 2) (hs : ∀ p, Pr p → p % 2 = 1 → ((p : Int) ∣ A ↔ (p : Int) ∣ A')) : A = A' := by
  have D' : A.natAbs * C.natAbs = A'.natAbs * C'.natAbs := by rw [← Int.natAbs_mul, ← Int.natAbs_mul, D]
  obtain ⟨g, x, y, h1, h2, h3, h4⟩ := two_part D' (by omega) (by omega) (fun p p1 p2 p3 p4 => cop_nd c1 p1.1 (Int.ofNat_dvd_left.2 p3) (Int.ofNat_dvd_left.2 p4)) (fun p p1 p2 p3 p4 => cop_nd c2 p1.1 (Int.ofNat_dvd_left.2 p3) (Int.ofNat_dvd_left.2 p4)) (fun p p1 p2 => by
    rw [← Int.ofNat_dvd_left, ← Int.ofNat_dvd_left]
    exact hs p p1 p2)
  rcases h4 with ⟨rfl, rfl⟩ | ⟨⟨t, rfl⟩, rfl⟩ | ⟨⟨t, rfl⟩, rfl⟩
  · omega
  · exfalso
    have e1 : C'.natAbs = 2 * (t * C.natAbs) := by
      rw [← Nat.mul_assoc, h3, Nat.one_mul]
    have e2 : A.natAbs = 2 * (g * t) := by rw [h1]; grind
    have k1 : ¬ (2 : Int) ∣ A' := fun z => cop_nd c2 (Nat.le_refl 2) z (by omega)
    omega
  · exfalso
    have e1 : C.natAbs = 2 * (t * C'.natAbs) := by
      rw [← Nat.mul_assoc, ← h3, Nat.one_mul]
    have e2 : A'.natAbs = 2 * (g * t) := by rw [h2]; grind
    have k1 : ¬ (2 : Int) ∣ A := fun z => cop_nd c1 (Nat.le_refl 2) z (by omega)
    omega
theorem amb_odd {A C : Int} (c1 : ∃ u v : Int, u * A + v * C = 1) {p : Nat} (p1 : Pr p) (p2 : p % 2 = 1) (p3 : p ∣ A.natAbs) (p4 : p ∣ (A - 4 * C).natAbs) : False := by
  have h1 : (p : Int) ∣ A := Int.ofNat_dvd_left.2 p3
  have h2 : (p : Int) ∣ A - 4 * C := Int.ofNat_dvd_left.2 p4
  have h3 : (p : Int) ∣ 4 * C := by
    have := Int.dvd_sub h1 h2
    rwa [show A - (A - 4 * C) = 4 * C by omega] at this
  rcases pr_mulI p1 h3 with z | z
  · have h5 : (p : Int) ∣ 2 * 2 := z
    have p5 := p1.1
    rcases pr_mulI p1 h5 with y | y
    · have := Int.le_of_dvd (by decide) y
      omega
    · have := Int.le_of_dvd (by decide) y
      omega
  · exact cop_nd c1 p1.1 h1 z
theorem amb_half {A C A' C' : Int} {g t : Nat} (c1 : ∃ u v : Int, u * A' + v * C' = 1) (h1 : A.natAbs = g * (2 * t)) (h2 : A'.natAbs = g * 1) (h3 : 2 * t * (A - 4 * C).natAbs = 1 * (A' - 4 * C').natAbs) (bit : 8 ∣ A ↔ 8 ∣ A') : False := by
  have e1 : (A' - 4 * C').natAbs = 2 * (t * (A - 4 * C).natAbs) := by
    rw [← Nat.mul_assoc, h3, Nat.one_mul]
  have e2 : A.natAbs = 2 * (g * t) := by rw [h1]; grind
  have a2 : (2 : Int) ∣ A' := by omega
  have k1 : ¬ (2 : Int) ∣ C' := fun z => cop_nd c1 (Nat.le_refl 2) a2 z
  obtain ⟨g', hg⟩ : ∃ g', g = 2 * g' := ⟨g / 2, by omega⟩
  have e3 : A.natAbs = 4 * (g' * t) := by rw [e2, hg]; grind
  obtain ⟨b, hb⟩ : ∃ b, (A - 4 * C).natAbs = 4 * b := ⟨(A - 4 * C).natAbs / 4, by omega⟩
  have e4 : (A' - 4 * C').natAbs = 8 * (t * b) := by rw [e1, hb]; grind
  have n8 : ¬ (8 : Int) ∣ A' := by omega
  obtain ⟨g2, hg2⟩ : ∃ g2, g' = 2 * g2 := ⟨g' / 2, by omega⟩
  have e5 : A.natAbs = 8 * (g2 * t) := by rw [e3, hg2]; grind
  exact n8 (bit.1 (by omega))
theorem amb_inj1 {A C A' C' : Int} (hA : A ≠ 0) (hA' : A' ≠ 0) (sg : 0 < A ↔ 0 < A') (D : A * (A - 4 * C) = A' * (A' - 4 * C')) (c1 : ∃ u v : Int, u * A + v * C = 1) (c2 : ∃ u v : Int, u * A' + v * C' = 1) (bit : 8 ∣ A ↔ 8 ∣ A') (hs : ∀ p, Pr p → p % 2 = 1 → ((p : Int) ∣ A ↔ (p : Int) ∣ A')) : A = A' := by
  have D' : A.natAbs * (A - 4 * C).natAbs = A'.natAbs * (A' - 4 * C').natAbs := by rw [← Int.natAbs_mul, ← Int.natAbs_mul, D]
  obtain ⟨g, x, y, h1, h2, h3, h4⟩ := two_part D' (by omega) (by omega) (fun p p1 p2 p3 p4 => amb_odd c1 p1 p2 p3 p4) (fun p p1 p2 p3 p4 => amb_odd c2 p1 p2 p3 p4) (fun p p1 p2 => by
    rw [← Int.ofNat_dvd_left, ← Int.ofNat_dvd_left]
    exact hs p p1 p2)
  rcases h4 with ⟨rfl, rfl⟩ | ⟨⟨t, rfl⟩, rfl⟩ | ⟨⟨t, rfl⟩, rfl⟩
  · omega
  · exact (amb_half c2 h1 h2 h3 bit).elim
  · exact (amb_half c1 h2 h1 h3.symm bit.symm).elim
