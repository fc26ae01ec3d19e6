/-! products of forms -/
theorem bezN : ∀ (n a b : Nat), b ≤ n → ∃ x y : Int, (a : Int) * x + b * y = Nat.gcd a b := by
  intro n
  induction n with
  | zero =>
    intro a b hb
    have : b = 0 := by omega
    subst this
    exact ⟨1, 0, by simp⟩
  | succ n ih =>
    intro a b hb
    by_cases h0 : b = 0
    · subst h0
      exact ⟨1, 0, by simp⟩
    · have hlt : a % b < b := Nat.mod_lt _ (by omega)
      obtain ⟨x, y, h⟩ := ih b (a % b) (by omega)
      refine ⟨y, x - (a / b : Nat) * y, ?_⟩
      have e : Nat.gcd b (a % b) = Nat.gcd a b := by rw [Nat.gcd_comm a b, Nat.gcd_rec b a, Nat.gcd_comm]
      rw [e] at h
      rw [← h]
      have e2 : (a : Int) = b * (a / b : Nat) + (a % b : Nat) := by
        have := Nat.div_add_mod a b
        rw [← Int.natCast_mul, ← Int.natCast_add, this]
      grind
theorem bez (a b : Int) : ∃ x y : Int, a * x + b * y = Int.gcd a b := by
  obtain ⟨x, y, h⟩ := bezN _ a.natAbs b.natAbs (Nat.le_refl _)
  have ha : ∃ u : Int, (a.natAbs : Int) = a * u := by
    rcases Int.natAbs_eq a with e | e
    · exact ⟨1, by omega⟩
    · exact ⟨-1, by omega⟩
  have hb : ∃ u : Int, (b.natAbs : Int) = b * u := by
    rcases Int.natAbs_eq b with e | e
    · exact ⟨1, by omega⟩
    · exact ⟨-1, by omega⟩
  obtain ⟨u, hu⟩ := ha
  obtain ⟨v, hv⟩ := hb
  refine ⟨u * x, v * y, ?_⟩
  rw [hu, hv] at h
  have : (Int.gcd a b : Int) = (Nat.gcd a.natAbs b.natAbs : Nat) := rfl
  rw [this]
  grind
/-- nothing goes into all three numbers -/
def Prim (f : Fm) : Prop := ∃ u v w : Int, u * f.1 + v * f.2.1 + w * f.2.2 = 1
theorem prim_iff (f : Fm) : Prim f ↔ Int.gcd (Int.gcd f.1 f.2.1) f.2.2 = 1 := by
  constructor
  · rintro ⟨u, v, w, h⟩
    have h1 : (Int.gcd (Int.gcd f.1 f.2.1 : Int) f.2.2 : Int) ∣ 1 := by
      have d1 : (Int.gcd (Int.gcd f.1 f.2.1 : Int) f.2.2 : Int) ∣ (Int.gcd f.1 f.2.1 : Int) := Int.gcd_dvd_left ..
      have d2 : (Int.gcd (Int.gcd f.1 f.2.1 : Int) f.2.2 : Int) ∣ f.2.2 := Int.gcd_dvd_right ..
      have d3 : (Int.gcd f.1 f.2.1 : Int) ∣ f.1 := Int.gcd_dvd_left ..
      have d4 : (Int.gcd f.1 f.2.1 : Int) ∣ f.2.1 := Int.gcd_dvd_right ..
      rw [← h]
      exact Int.dvd_add (Int.dvd_add (Int.dvd_mul_of_dvd_right (Int.dvd_trans d1 d3)) (Int.dvd_mul_of_dvd_right (Int.dvd_trans d1 d4))) (Int.dvd_mul_of_dvd_right d2)
    have h2 := Int.le_of_dvd (by decide) h1
    have h3 : Int.gcd (Int.gcd f.1 f.2.1 : Int) f.2.2 ≠ 0 := by
      intro h0
      rw [h0] at h1
      have := Int.zero_dvd.1 h1
      omega
    omega
  · intro h
    obtain ⟨x, y, h1⟩ := bez f.1 f.2.1
    obtain ⟨x', y', h2⟩ := bez (Int.gcd f.1 f.2.1) f.2.2
    rw [h] at h2
    refine ⟨x * x', y * x', y', ?_⟩
    rw [← h1] at h2
    grind
theorem prim_eqv {f g : Fm} (he : Eqv f g) (hp : Prim f) : Prim g := by
  obtain ⟨p, q, r, s, h1, rfl⟩ := he
  obtain ⟨u, v, w, h⟩ := hp
  -- f is g turned back
  have e := acF_inv f h1
  generalize acF f p q r s = g at e
  obtain ⟨a, b, c⟩ := g
  simp only [acF] at e
  obtain ⟨A, B, C⟩ := f
  simp only [Prod.mk.injEq] at e
  obtain ⟨e1, e2, e3⟩ := e
  simp only at h
  refine ⟨u * s * s + v * (2 * s * -q) + w * q * q, u * s * -r + v * (s * p + -q * -r) + w * -q * p, u * r * r + v * (2 * -r * p) + w * p * p, ?_⟩
  simp only
  rw [← h, ← e1, ← e2, ← e3]
  grind
/-- a form is a product of two: by eight numbers -/
def Cmp (f g k : Fm) : Prop := ∃ p0 p1 p2 p3 q0 q1 q2 q3 : Int, p0 * q1 - p1 * q0 = f.1 ∧ p0 * q2 - p2 * q0 = g.1 ∧ (p0 * q3 - p3 * q0) - (p1 * q2 - p2 * q1) = f.2.1 ∧ (p0 * q3 - p3 * q0) + (p1 * q2 - p2 * q1) = g.2.1 ∧ p1 * q3 - p3 * q1 = g.2.2 ∧ p2 * q3 - p3 * q2 = f.2.2 ∧ q1 * q2 - q0 * q3 = k.1 ∧ p0 * q3 + q0 * p3 - p1 * q2 - q1 * p2 = k.2.1 ∧ p1 * p2 - p0 * p3 = k.2.2
theorem cmp_comm {f g k : Fm} (h : Cmp f g k) : Cmp g f k := by
  obtain ⟨p0, p1, p2, p3, q0, q1, q2, q3, h1, h2, h3, h4, h5, h6, h7, h8, h9⟩ := h
  exact ⟨p0, p2, p1, p3, q0, q2, q1, q3, h2, h1, by omega, by omega, h6, h5, by grind, by grind, by grind⟩
theorem cmp_eqv1 {f f' g k : Fm} (h : Cmp f g k) (he : Eqv f f') : Cmp f' g k := by
  obtain ⟨p0, p1, p2, p3, q0, q1, q2, q3, h1, h2, h3, h4, h5, h6, h7, h8, h9⟩ := h
  obtain ⟨α, β, γ, δ, hd, rfl⟩ := he
  refine ⟨α * p0 + γ * p2, α * p1 + γ * p3, β * p0 + δ * p2, β * p1 + δ * p3, α * q0 + γ * q2, α * q1 + γ * q3, β * q0 + δ * q2, β * q1 + δ * q3, ?_, ?_, ?_, ?_, ?_, ?_, ?_, ?_, ?_⟩
  · simp only [acF]
    rw [← h1, ← h3, ← h6]
    grind
  · rw [← h2]
    have : (α * p0 + γ * p2) * (β * q0 + δ * q2) - (β * p0 + δ * p2) * (α * q0 + γ * q2) = (α * δ - β * γ) * (p0 * q2 - p2 * q0) := by grind
    rw [this, hd, Int.one_mul]
  · simp only [acF]
    rw [← h1, ← h3, ← h6]
    grind
  · rw [← h4]
    have : ((α * p0 + γ * p2) * (β * q1 + δ * q3) - (β * p1 + δ * p3) * (α * q0 + γ * q2)) + ((α * p1 + γ * p3) * (β * q0 + δ * q2) - (β * p0 + δ * p2) * (α * q1 + γ * q3)) = (α * δ - β * γ) * ((p0 * q3 - p3 * q0) + (p1 * q2 - p2 * q1)) := by grind
    rw [this, hd, Int.one_mul]
  · rw [← h5]
    have : (α * p1 + γ * p3) * (β * q1 + δ * q3) - (β * p1 + δ * p3) * (α * q1 + γ * q3) = (α * δ - β * γ) * (p1 * q3 - p3 * q1) := by grind
    rw [this, hd, Int.one_mul]
  · simp only [acF]
    rw [← h1, ← h3, ← h6]
    grind
  · rw [← h7]
    have : (α * q1 + γ * q3) * (β * q0 + δ * q2) - (α * q0 + γ * q2) * (β * q1 + δ * q3) = (α * δ - β * γ) * (q1 * q2 - q0 * q3) := by grind
    rw [this, hd, Int.one_mul]
  · rw [← h8]
    have : (α * p0 + γ * p2) * (β * q1 + δ * q3) + (α * q0 + γ * q2) * (β * p1 + δ * p3) - (α * p1 + γ * p3) * (β * q0 + δ * q2) - (α * q1 + γ * q3) * (β * p0 + δ * p2) = (α * δ - β * γ) * (p0 * q3 + q0 * p3 - p1 * q2 - q1 * p2) := by grind
    rw [this, hd, Int.one_mul]
  · rw [← h9]
    have : (α * p1 + γ * p3) * (β * p0 + δ * p2) - (α * p0 + γ * p2) * (β * p1 + δ * p3) = (α * δ - β * γ) * (p1 * p2 - p0 * p3) := by grind
    rw [this, hd, Int.one_mul]
theorem cmp_eqv2 {f g g' k : Fm} (h : Cmp f g k) (he : Eqv g g') : Cmp f g' k := cmp_comm (cmp_eqv1 (cmp_comm h) he)
theorem cmp_eqv3 {f g k k' : Fm} (h : Cmp f g k) (he : Eqv k k') : Cmp f g k' := by
  obtain ⟨p0, p1, p2, p3, q0, q1, q2, q3, h1, h2, h3, h4, h5, h6, h7, h8, h9⟩ := h
  obtain ⟨α, β, γ, δ, hd, rfl⟩ := he
  have mn : ∀ x y x' y' : Int, (δ * x - β * x') * (α * y' - γ * y) - (δ * y - β * y') * (α * x' - γ * x) = x * y' - y * x' := by
    intro x y x' y'
    have : (δ * x - β * x') * (α * y' - γ * y) - (δ * y - β * y') * (α * x' - γ * x) = (α * δ - β * γ) * (x * y' - y * x') := by grind
    rw [this, hd, Int.one_mul]
  refine ⟨δ * p0 - β * q0, δ * p1 - β * q1, δ * p2 - β * q2, δ * p3 - β * q3, α * q0 - γ * p0, α * q1 - γ * p1, α * q2 - γ * p2, α * q3 - γ * p3, ?_, ?_, ?_, ?_, ?_, ?_, ?_, ?_, ?_⟩
  · rw [mn, ← h1]
  · rw [mn, ← h2]
  · rw [mn, mn, ← h3]
  · rw [mn, mn, ← h4]
  · rw [mn, ← h5]
  · rw [mn, ← h6]
  · simp only [acF]
    rw [← h7, ← h8, ← h9]
    grind
  · simp only [acF]
    rw [← h7, ← h8, ← h9]
    grind
  · simp only [acF]
    rw [← h7, ← h8, ← h9]
    grind
theorem cmp_unique {f g k k' : Fm} (hp : Prim f) (h : Cmp f g k) (h' : Cmp f g k') : Eqv k k' := by
  obtain ⟨p0, p1, p2, p3, q0, q1, q2, q3, h1, h2, h3, h4, h5, h6, h7, h8, h9⟩ := h
  obtain ⟨r0, r1, r2, r3, s0, s1, s2, s3, i1, i2, i3, i4, i5, i6, i7, i8, i9⟩ := h'
  obtain ⟨u, v, w, hb⟩ := hp
  have e01 : p0 * q1 - p1 * q0 = r0 * s1 - r1 * s0 := by omega
  have e02 : p0 * q2 - p2 * q0 = r0 * s2 - r2 * s0 := by omega
  have e03 : p0 * q3 - p3 * q0 = r0 * s3 - r3 * s0 := by omega
  have e12 : p1 * q2 - p2 * q1 = r1 * s2 - r2 * s1 := by omega
  have e13 : p1 * q3 - p3 * q1 = r1 * s3 - r3 * s1 := by omega
  have e23 : p2 * q3 - p3 * q2 = r2 * s3 - r3 * s2 := by omega
  have one : u * (p0 * q1 - p1 * q0) + v * ((p0 * q3 - p3 * q0) - (p1 * q2 - p2 * q1)) + w * (p2 * q3 - p3 * q2) = 1 := by rw [h1, h3, h6]; exact hb
  -- a vector r that lies in the plane
  have plane : ∀ r0 r1 r2 r3 : Int, r0 * (p1 * q2 - p2 * q1) - r1 * (p0 * q2 - p2 * q0) + r2 * (p0 * q1 - p1 * q0) = 0 → r0 * (p1 * q3 - p3 * q1) - r1 * (p0 * q3 - p3 * q0) + r3 * (p0 * q1 - p1 * q0) = 0 → r0 * (p2 * q3 - p3 * q2) - r2 * (p0 * q3 - p3 * q0) + r3 * (p0 * q2 - p2 * q0) = 0 → r1 * (p2 * q3 - p3 * q2) - r2 * (p1 * q3 - p3 * q1) + r3 * (p1 * q2 - p2 * q1) = 0 → ∃ α β : Int, r0 = α * p0 + β * q0 ∧ r1 = α * p1 + β * q1 ∧ r2 = α * p2 + β * q2 ∧ r3 = α * p3 + β * q3 := by
    intro r0 r1 r2 r3 t012 t013 t023 t123
    refine ⟨u * (r0 * q1 - r1 * q0) + v * ((r0 * q3 - r3 * q0) - (r1 * q2 - r2 * q1)) + w * (r2 * q3 - r3 * q2), u * (p0 * r1 - p1 * r0) + v * ((p0 * r3 - p3 * r0) - (p1 * r2 - p2 * r1)) + w * (p2 * r3 - p3 * r2), ?_, ?_, ?_, ?_⟩
    · have : r0 * (u * (p0 * q1 - p1 * q0) + v * ((p0 * q3 - p3 * q0) - (p1 * q2 - p2 * q1)) + w * (p2 * q3 - p3 * q2)) - (((u * (r0 * q1 - r1 * q0) + v * ((r0 * q3 - r3 * q0) - (r1 * q2 - r2 * q1)) + w * (r2 * q3 - r3 * q2))) * p0 + (u * (p0 * r1 - p1 * r0) + v * ((p0 * r3 - p3 * r0) - (p1 * r2 - p2 * r1)) + w * (p2 * r3 - p3 * r2)) * q0) = (-v) * (r0 * (p1 * q2 - p2 * q1) - r1 * (p0 * q2 - p2 * q0) + r2 * (p0 * q1 - p1 * q0)) + w * (r0 * (p2 * q3 - p3 * q2) - r2 * (p0 * q3 - p3 * q0) + r3 * (p0 * q2 - p2 * q0)) := by grind
      rw [one, t012, t023] at this
      omega
    · have : r1 * (u * (p0 * q1 - p1 * q0) + v * ((p0 * q3 - p3 * q0) - (p1 * q2 - p2 * q1)) + w * (p2 * q3 - p3 * q2)) - (((u * (r0 * q1 - r1 * q0) + v * ((r0 * q3 - r3 * q0) - (r1 * q2 - r2 * q1)) + w * (r2 * q3 - r3 * q2))) * p1 + (u * (p0 * r1 - p1 * r0) + v * ((p0 * r3 - p3 * r0) - (p1 * r2 - p2 * r1)) + w * (p2 * r3 - p3 * r2)) * q1) = (-v) * (r0 * (p1 * q3 - p3 * q1) - r1 * (p0 * q3 - p3 * q0) + r3 * (p0 * q1 - p1 * q0)) + w * (r1 * (p2 * q3 - p3 * q2) - r2 * (p1 * q3 - p3 * q1) + r3 * (p1 * q2 - p2 * q1)) := by grind
      rw [one, t013, t123] at this
      omega
    · have : r2 * (u * (p0 * q1 - p1 * q0) + v * ((p0 * q3 - p3 * q0) - (p1 * q2 - p2 * q1)) + w * (p2 * q3 - p3 * q2)) - (((u * (r0 * q1 - r1 * q0) + v * ((r0 * q3 - r3 * q0) - (r1 * q2 - r2 * q1)) + w * (r2 * q3 - r3 * q2))) * p2 + (u * (p0 * r1 - p1 * r0) + v * ((p0 * r3 - p3 * r0) - (p1 * r2 - p2 * r1)) + w * (p2 * r3 - p3 * r2)) * q2) = u * (r0 * (p1 * q2 - p2 * q1) - r1 * (p0 * q2 - p2 * q0) + r2 * (p0 * q1 - p1 * q0)) + (-v) * (r0 * (p2 * q3 - p3 * q2) - r2 * (p0 * q3 - p3 * q0) + r3 * (p0 * q2 - p2 * q0)) := by grind
      rw [one, t012, t023] at this
      omega
    · have : r3 * (u * (p0 * q1 - p1 * q0) + v * ((p0 * q3 - p3 * q0) - (p1 * q2 - p2 * q1)) + w * (p2 * q3 - p3 * q2)) - (((u * (r0 * q1 - r1 * q0) + v * ((r0 * q3 - r3 * q0) - (r1 * q2 - r2 * q1)) + w * (r2 * q3 - r3 * q2))) * p3 + (u * (p0 * r1 - p1 * r0) + v * ((p0 * r3 - p3 * r0) - (p1 * r2 - p2 * r1)) + w * (p2 * r3 - p3 * r2)) * q3) = u * (r0 * (p1 * q3 - p3 * q1) - r1 * (p0 * q3 - p3 * q0) + r3 * (p0 * q1 - p1 * q0)) + (-v) * (r1 * (p2 * q3 - p3 * q2) - r2 * (p1 * q3 - p3 * q1) + r3 * (p1 * q2 - p2 * q1)) := by grind
      rw [one, t013, t123] at this
      omega
  obtain ⟨α, β, a0, a1, a2, a3⟩ := plane r0 r1 r2 r3 (by rw [e12, e02, e01]; grind) (by rw [e13, e03, e01]; grind) (by rw [e23, e03, e02]; grind) (by rw [e23, e13, e12]; grind)
  obtain ⟨γ, δ, b0, b1, b2, b3⟩ := plane s0 s1 s2 s3 (by rw [e12, e02, e01]; grind) (by rw [e13, e03, e01]; grind) (by rw [e23, e03, e02]; grind) (by rw [e23, e13, e12]; grind)
  have hdet : α * δ - β * γ = 1 := by
    have : (α * δ - β * γ) * (u * (p0 * q1 - p1 * q0) + v * ((p0 * q3 - p3 * q0) - (p1 * q2 - p2 * q1)) + w * (p2 * q3 - p3 * q2)) = u * (r0 * s1 - r1 * s0) + v * ((r0 * s3 - r3 * s0) - (r1 * s2 - r2 * s1)) + w * (r2 * s3 - r3 * s2) := by
      rw [a0, a1, a2, a3, b0, b1, b2, b3]
      grind
    rw [one, ← e01, ← e03, ← e12, ← e23, one] at this
    omega
  refine ⟨δ, -β, -γ, α, by grind, ?_⟩
  obtain ⟨A, B, C⟩ := k
  obtain ⟨A', B', C'⟩ := k'
  simp only at h7 h8 h9 i7 i8 i9
  simp only [acF, Prod.mk.injEq]
  rw [← h7, ← h8, ← h9, ← i7, ← i8, ← i9, a0, a1, a2, a3, b0, b1, b2, b3]
  refine ⟨by grind, by grind, by grind⟩
theorem cmp_d {f g k : Fm} (h : Cmp f g k) : dF k = dF f := by
  obtain ⟨p0, p1, p2, p3, q0, q1, q2, q3, h1, h2, h3, h4, h5, h6, h7, h8, h9⟩ := h
  simp only [dF]
  rw [← h7, ← h8, ← h9, ← h1, ← h3, ← h6]
  grind
theorem cmp_prim {f g k : Fm} (hf : Prim f) (hg : Prim g) (h : Cmp f g k) : Prim k := by
  obtain ⟨p0, p1, p2, p3, q0, q1, q2, q3, h1, h2, h3, h4, h5, h6, h7, h8, h9⟩ := h
  obtain ⟨u, v, w, e⟩ := hf
  obtain ⟨u', v', w', e'⟩ := hg
  obtain ⟨A, B, C⟩ := k
  simp only at h7 h8 h9
  have m1 : f.1 * g.1 = A * (p0 * p0) + B * (p0 * q0) + C * (q0 * q0) := by rw [← h7, ← h8, ← h9, ← h1, ← h2]; grind
  have m2 : f.1 * g.2.1 = A * (2 * p0 * p1) + B * (p0 * q1 + p1 * q0) + C * (2 * q0 * q1) := by rw [← h7, ← h8, ← h9, ← h1, ← h4]; grind
  have m3 : f.1 * g.2.2 = A * (p1 * p1) + B * (p1 * q1) + C * (q1 * q1) := by rw [← h7, ← h8, ← h9, ← h1, ← h5]; grind
  have m4 : f.2.1 * g.1 = A * (2 * p0 * p2) + B * (p0 * q2 + p2 * q0) + C * (2 * q0 * q2) := by rw [← h7, ← h8, ← h9, ← h3, ← h2]; grind
  have m5 : f.2.1 * g.2.1 = A * (2 * (p0 * p3 + p1 * p2)) + B * (p0 * q3 + p3 * q0 + p1 * q2 + p2 * q1) + C * (2 * (q0 * q3 + q1 * q2)) := by rw [← h7, ← h8, ← h9, ← h3, ← h4]; grind
  have m6 : f.2.1 * g.2.2 = A * (2 * p1 * p3) + B * (p1 * q3 + p3 * q1) + C * (2 * q1 * q3) := by rw [← h7, ← h8, ← h9, ← h3, ← h5]; grind
  have m7 : f.2.2 * g.1 = A * (p2 * p2) + B * (p2 * q2) + C * (q2 * q2) := by rw [← h7, ← h8, ← h9, ← h6, ← h2]; grind
  have m8 : f.2.2 * g.2.1 = A * (2 * p2 * p3) + B * (p2 * q3 + p3 * q2) + C * (2 * q2 * q3) := by rw [← h7, ← h8, ← h9, ← h6, ← h4]; grind
  have m9 : f.2.2 * g.2.2 = A * (p3 * p3) + B * (p3 * q3) + C * (q3 * q3) := by rw [← h7, ← h8, ← h9, ← h6, ← h5]; grind
  have all : (u * u') * (f.1 * g.1) + (u * v') * (f.1 * g.2.1) + (u * w') * (f.1 * g.2.2) + (v * u') * (f.2.1 * g.1) + (v * v') * (f.2.1 * g.2.1) + (v * w') * (f.2.1 * g.2.2) + (w * u') * (f.2.2 * g.1) + (w * v') * (f.2.2 * g.2.1) + (w * w') * (f.2.2 * g.2.2) = (u * f.1 + v * f.2.1 + w * f.2.2) * (u' * g.1 + v' * g.2.1 + w' * g.2.2) := by grind
  rw [e, e', m1, m2, m3, m4, m5, m6, m7, m8, m9] at all
  refine ⟨(u * u') * (p0 * p0) + (u * v') * (2 * p0 * p1) + (u * w') * (p1 * p1) + (v * u') * (2 * p0 * p2) + (v * v') * (2 * (p0 * p3 + p1 * p2)) + (v * w') * (2 * p1 * p3) + (w * u') * (p2 * p2) + (w * v') * (2 * p2 * p3) + (w * w') * (p3 * p3), (u * u') * (p0 * q0) + (u * v') * (p0 * q1 + p1 * q0) + (u * w') * (p1 * q1) + (v * u') * (p0 * q2 + p2 * q0) + (v * v') * (p0 * q3 + p3 * q0 + p1 * q2 + p2 * q1) + (v * w') * (p1 * q3 + p3 * q1) + (w * u') * (p2 * q2) + (w * v') * (p2 * q3 + p3 * q2) + (w * w') * (p3 * q3), (u * u') * (q0 * q0) + (u * v') * (2 * q0 * q1) + (u * w') * (q1 * q1) + (v * u') * (2 * q0 * q2) + (v * v') * (2 * (q0 * q3 + q1 * q2)) + (v * w') * (2 * q1 * q3) + (w * u') * (q2 * q2) + (w * v') * (2 * q2 * q3) + (w * w') * (q3 * q3), ?_⟩
  simp only
  rw [show (1 : Int) = 1 * 1 by decide, ← all]
  grind
/-- forms with one middle number -/
theorem cmp_dir (a a' b c : Int) : Cmp (a, b, a' * c) (a', b, a * c) (a * a', b, c) := by
  refine ⟨1, 0, 0, -c, 0, a, a', b, ?_, ?_, ?_, ?_, ?_, ?_, ?_, ?_, ?_⟩ <;> simp only <;> grind
theorem eqv_slide (a b c e : Int) : Eqv (a, b, c) (a, b + 2 * a * e, a * e * e + b * e + c) := by
  refine ⟨1, e, 0, 1, by omega, ?_⟩
  simp only [acF, Prod.mk.injEq]
  refine ⟨by grind, by grind, by grind⟩
theorem par_d {f g : Fm} (h : dF f = dF g) : ∃ m : Int, g.2.1 - f.2.1 = 2 * m := by
  obtain ⟨a, b, c⟩ := f
  obtain ⟨a', b', c'⟩ := g
  simp only [dF] at h
  have hb : ∃ m, b' = 2 * m + b % 2 := by
    have h1 : (b * b) % 2 = (b' * b') % 2 := by
      have : b' * b' = b * b + 2 * (2 * (a' * c') - 2 * (a * c)) := by grind
      rw [this, Int.add_mul_emod_self_left]
    have h2 : b % 2 = b' % 2 := by
      rw [Int.mul_emod, Int.mul_emod b' b'] at h1
      have x1 : b % 2 = 0 ∨ b % 2 = 1 := by omega
      have x2 : b' % 2 = 0 ∨ b' % 2 = 1 := by omega
      rcases x1 with x1 | x1 <;> rcases x2 with x2 | x2 <;> rw [x1, x2] at h1 <;> omega
    exact ⟨b' / 2, by omega⟩
  obtain ⟨m, hm⟩ := hb
  exact ⟨m - b / 2, by simp only; omega⟩
theorem slide_to {f : Fm} {d b e x : Int} (hd : dF f = d) (ha : f.1 ≠ 0) (hb : b = f.2.1 + 2 * f.1 * e) (hx : b * b - 4 * f.1 * x = d) : Eqv f (f.1, b, x) := by
  obtain ⟨a, b0, c⟩ := f
  simp only [dF] at hd ha hb hx ⊢
  have h := eqv_slide a b0 c e
  rw [← hb] at h
  have : a * e * e + b0 * e + c = x := by
    have : 4 * a * (a * e * e + b0 * e + c - x) = 0 := by grind
    rcases Int.mul_eq_zero.1 this with g | g
    · omega
    · omega
  rw [this] at h
  exact h
/-- forms whose first numbers have nothing in common get one middle number -/
theorem concord {f g : Fm} {d : Int} (hf : dF f = d) (hg : dF g = d) {x y : Int} (h : x * f.1 + y * g.1 = 1) : ∃ b c e e' : Int, b = f.2.1 + 2 * f.1 * e ∧ b = g.2.1 + 2 * g.1 * e' ∧ b * b - 4 * (f.1 * g.1) * c = d := by
  obtain ⟨m, hm⟩ := par_d (hf.trans hg.symm)
  obtain ⟨a, b, c⟩ := f
  obtain ⟨a', b', c'⟩ := g
  simp only at h hm
  have s1 := eqv_slide a b c (x * m)
  have s2 := eqv_slide a' b' c' (-(y * m))
  have hb : b' + 2 * a' * -(y * m) = b + 2 * a * (x * m) := by
    have : m * (x * a + y * a') = m := by rw [h, Int.mul_one]
    grind
  have d1 := eqv_d s1
  have d2 := eqv_d s2
  rw [hf] at d1
  rw [hg] at d2
  rw [hb] at d2
  simp only [dF] at d1 d2
  generalize a * (x * m) * (x * m) + b * (x * m) + c = C at d1
  generalize a' * -(y * m) * -(y * m) + b' * -(y * m) + c' = C' at d2
  refine ⟨b + 2 * a * (x * m), x * C' + y * C, x * m, -(y * m), rfl, hb.symm, ?_⟩
  simp only
  generalize b + 2 * a * (x * m) = B at d1 d2
  have e : a' * (x * C' + y * C) = C := by
    have h1 : C * (x * a + y * a') = C := by rw [h, Int.mul_one]
    have h2 : 4 * (a * C) = 4 * (a' * C') := by grind
    have h3 : a * C = a' * C' := by omega
    grind
  rw [← d1, Int.mul_assoc, Int.mul_assoc 4 a C, Int.mul_assoc, e]
/-- the product by what three numbers have in common -/
theorem cmp_gcd {a b c a' b' c' d n u v w s δ A A' S : Int} (hd : b * b - 4 * a * c = d) (hd' : b' * b' - 4 * a' * c' = d) (hs : b + b' = 2 * s) (hδ : b' - b = 2 * δ) (hn : n ≠ 0) (hA : a = n * A) (hA' : a' = n * A') (hS : s = n * S) (hbz : u * a + v * a' + w * s = n) : ∃ B C : Int, n * B = u * a * b' + v * a' * b + w * (s * s - a * c - a' * c') ∧ Cmp (a, b, c) (a', b', c') (A * A', B, C) := by
  have one : u * A + v * A' + w * S = 1 := by
    have : n * (u * A + v * A' + w * S - 1) = 0 := by grind
    rcases Int.mul_eq_zero.1 this with g | g
    · exact absurd g hn
    · omega
  have hpl : A * c - A' * c' + S * δ = 0 := by
    have h4 : b = s - δ := by omega
    have h5 : b' = s + δ := by omega
    have : n * (A * c - A' * c' + S * δ) = 0 := by
      have h6 : 4 * (a * c - a' * c' + s * δ) = 0 := by
        rw [h4] at hd
        rw [h5] at hd'
        grind
      grind
    rcases Int.mul_eq_zero.1 this with g | g
    · exact absurd g hn
    · exact g
  refine ⟨n * S - (v * δ + w * c') * A' - A * (w * c - u * δ), (v * δ + w * c') * (w * c - u * δ) - n * (-(u * c') - v * c), ?_, ?_⟩
  · have h4 : b = s - δ := by omega
    have h5 : b' = s + δ := by omega
    rw [h4, h5]
    have e1 : n * (n * S - (v * δ + w * c') * A' - A * (w * c - u * δ)) = n * s - (v * δ + w * c') * a' - a * (w * c - u * δ) := by grind
    rw [e1]
    have e2 : n * s = (u * a + v * a' + w * s) * s := by rw [hbz]
    rw [e2]
    grind
  · refine ⟨n, v * δ + w * c', w * c - u * δ, -(u * c') - v * c, 0, A, A', S, ?_, ?_, ?_, ?_, ?_, ?_, ?_, ?_, ?_⟩
    · simp only
      grind
    · simp only
      grind
    · simp only
      have e : (v * δ + w * c') * A' - (w * c - u * δ) * A = δ := by
        have : δ * (u * A + v * A' + w * S) = δ := by rw [one, Int.mul_one]
        have h0 : w * (A * c - A' * c' + S * δ) = 0 := by rw [hpl, Int.mul_zero]
        grind
      rw [e]
      grind
    · simp only
      have e : (v * δ + w * c') * A' - (w * c - u * δ) * A = δ := by
        have : δ * (u * A + v * A' + w * S) = δ := by rw [one, Int.mul_one]
        have h0 : w * (A * c - A' * c' + S * δ) = 0 := by rw [hpl, Int.mul_zero]
        grind
      rw [e]
      grind
    · simp only
      have : c' * (u * A + v * A' + w * S) = c' := by rw [one, Int.mul_one]
      have h0 : v * (A * c - A' * c' + S * δ) = 0 := by rw [hpl, Int.mul_zero]
      grind
    · simp only
      have : c * (u * A + v * A' + w * S) = c := by rw [one, Int.mul_one]
      have h0 : u * (A * c - A' * c' + S * δ) = 0 := by rw [hpl, Int.mul_zero]
      grind
    · simp only
      grind
    · simp only
      grind
    · simp only
