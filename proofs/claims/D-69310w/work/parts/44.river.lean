/-! forms: equivalence, and the river of an indefinite form -/
def evF (f : Fm) (x y : Int) : Int := f.1 * x * x + f.2.1 * x * y + f.2.2 * y * y
def dF (f : Fm) : Int := f.2.1 * f.2.1 - 4 * f.1 * f.2.2
/-- the form at (p x + q y, r x + s y) -/
def acF (f : Fm) (p q r s : Int) : Fm := (f.1 * p * p + f.2.1 * p * r + f.2.2 * r * r, 2 * f.1 * p * q + f.2.1 * (p * s + q * r) + 2 * f.2.2 * r * s, f.1 * q * q + f.2.1 * q * s + f.2.2 * s * s)
def Eqv (f g : Fm) : Prop := ∃ p q r s : Int, p * s - q * r = 1 ∧ g = acF f p q r s
theorem acF_one (f : Fm) : acF f 1 0 0 1 = f := by
  obtain ⟨a, b, c⟩ := f
  simp only [acF, Prod.mk.injEq]
  refine ⟨by grind, by grind, by grind⟩
theorem acF_acF (f : Fm) (p q r s p' q' r' s' : Int) : acF (acF f p q r s) p' q' r' s' = acF f (p * p' + q * r') (p * q' + q * s') (r * p' + s * r') (r * q' + s * s') := by
  obtain ⟨a, b, c⟩ := f
  simp only [acF, Prod.mk.injEq]
  refine ⟨by grind, by grind, by grind⟩
theorem acF_neg (f : Fm) (p q r s : Int) : acF f (-p) (-q) (-r) (-s) = acF f p q r s := by
  obtain ⟨a, b, c⟩ := f
  simp only [acF, Prod.mk.injEq]
  refine ⟨by grind, by grind, by grind⟩
theorem evF_acF (f : Fm) (p q r s x y : Int) : evF (acF f p q r s) x y = evF f (p * x + q * y) (r * x + s * y) := by
  obtain ⟨a, b, c⟩ := f
  simp only [acF, evF]
  grind
theorem acF_1 (f : Fm) (p q r s : Int) : (acF f p q r s).1 = evF f p r := rfl
theorem acF_3 (f : Fm) (p q r s : Int) : (acF f p q r s).2.2 = evF f q s := rfl
theorem dF_acF (f : Fm) (p q r s : Int) (h : p * s - q * r = 1) : dF (acF f p q r s) = dF f := by
  obtain ⟨a, b, c⟩ := f
  have e : dF (acF (a, b, c) p q r s) = dF (a, b, c) * ((p * s - q * r) * (p * s - q * r)) := by
    simp only [acF, dF]
    grind
  rw [e, h, Int.mul_one, Int.mul_one]
theorem acF_inv (f : Fm) {p q r s : Int} (h : p * s - q * r = 1) : acF (acF f p q r s) s (-q) (-r) p = f := by
  rw [acF_acF]
  have e1 : p * s + q * -r = 1 := by grind
  have e2 : p * -q + q * p = 0 := by grind
  have e3 : r * s + s * -r = 0 := by grind
  have e4 : r * -q + s * p = 1 := by grind
  rw [e1, e2, e3, e4, acF_one]
theorem eqv_refl (f : Fm) : Eqv f f := ⟨1, 0, 0, 1, by decide, (acF_one f).symm⟩
theorem eqv_symm {f g : Fm} (h : Eqv f g) : Eqv g f := by
  obtain ⟨p, q, r, s, h1, rfl⟩ := h
  exact ⟨s, -q, -r, p, by grind, (acF_inv f h1).symm⟩
theorem eqv_trans {f g k : Fm} (h : Eqv f g) (h' : Eqv g k) : Eqv f k := by
  obtain ⟨p, q, r, s, h1, rfl⟩ := h
  obtain ⟨p', q', r', s', h2, rfl⟩ := h'
  refine ⟨_, _, _, _, ?_, acF_acF _ _ _ _ _ _ _ _ _⟩
  have : (p * p' + q * r') * (r * q' + s * s') - (p * q' + q * s') * (r * p' + s * r') = (p * s - q * r) * (p' * s' - q' * r') := by grind
  rw [this, h1, h2]
  rfl
theorem eqv_d {f g : Fm} (h : Eqv f g) : dF g = dF f := by
  obtain ⟨p, q, r, s, h1, rfl⟩ := h
  exact dF_acF _ _ _ _ _ h1
/-- no square -/
def nsq (d : Int) : Prop := ∀ k : Int, k * k ≠ d
theorem nsq_1 {f : Fm} {d : Int} (hn : nsq d) (hd : dF f = d) : f.1 ≠ 0 := by
  intro h
  refine hn f.2.1 ?_
  rw [← hd, dF, h]
  grind
theorem nsq_3 {f : Fm} {d : Int} (hn : nsq d) (hd : dF f = d) : f.2.2 ≠ 0 := by
  intro h
  refine hn f.2.1 ?_
  rw [← hd, dF, h]
  grind
theorem nsq_m {f : Fm} {d : Int} (hn : nsq d) (hd : dF f = d) : f.1 + f.2.1 + f.2.2 ≠ 0 := by
  intro h
  refine hn (f.1 - f.2.2) ?_
  have : f.2.1 = -(f.1 + f.2.2) := by omega
  rw [← hd, dF, this]
  grind
def rvF (f : Fm) : Prop := 0 < f.1 ∧ f.2.2 < 0
theorem cone1 {f : Fm} (hf : rvF f) {x y x' y' : Int} (hx : 0 ≤ x) (hy : 0 ≤ y) (hx' : 0 ≤ x') (hy' : 0 ≤ y') (h1 : 0 < evF f x y) (h2 : evF f x' y' < 0) : x' * y < x * y' := by
  obtain ⟨a, b, c⟩ := f
  obtain ⟨ha, hc⟩ := hf
  simp only at ha hc
  by_cases hk : x' * y < x * y'
  · exact hk
  exfalso
  have e : x * y * evF (a, b, c) x' y' - x' * y' * evF (a, b, c) x y = (x' * y - x * y') * (a * (x * x') + (-c) * (y * y')) := by
    simp only [evF]
    grind
  have r0 : 0 ≤ (x' * y - x * y') * (a * (x * x') + (-c) * (y * y')) :=
    Int.mul_nonneg (by omega) (Int.add_nonneg (Int.mul_nonneg (by omega) (Int.mul_nonneg hx hx')) (Int.mul_nonneg (by omega) (Int.mul_nonneg hy hy')))
  have hxp : 0 < x := by
    by_cases g : x = 0
    · exfalso
      rw [g] at h1
      simp only [evF] at h1
      have : c * y * y ≤ 0 := by
        rw [Int.mul_assoc]
        exact Int.mul_nonpos_of_nonpos_of_nonneg (by omega) (Int.mul_nonneg hy hy)
      grind
    · omega
  have hyp : 0 < y' := by
    by_cases g : y' = 0
    · exfalso
      rw [g] at h2
      simp only [evF] at h2
      have : 0 ≤ a * x' * x' := by
        rw [Int.mul_assoc]
        exact Int.mul_nonneg (by omega) (Int.mul_nonneg hx' hx')
      grind
    · omega
  have hy0 : y = 0 := by
    by_cases g : y = 0
    · exact g
    exfalso
    have l1 : 0 < x * y * -evF (a, b, c) x' y' := Int.mul_pos (Int.mul_pos hxp (by omega)) (by omega)
    have l2 : 0 ≤ x' * y' * evF (a, b, c) x y := Int.mul_nonneg (Int.mul_nonneg hx' hy') (by omega)
    grind
  have hx0 : x' = 0 := by
    by_cases g : x' = 0
    · exact g
    exfalso
    have l2 : 0 < x' * y' * evF (a, b, c) x y := Int.mul_pos (Int.mul_pos (by omega) hyp) h1
    rw [hy0] at e l2
    grind
  have : 0 < x * y' := Int.mul_pos hxp hyp
  rw [hx0] at hk
  grind
/-- of two edges of the river each lies ahead of the other one or behind it -/
theorem river_sign {f : Fm} (hf : rvF f) {p q r s : Int} (h1 : p * s - q * r = 1) (hg : rvF (acF f p q r s)) : ∃ p' q' r' s' : Int, 0 < p' ∧ 0 < s' ∧ p' * s' - q' * r' = 1 ∧ acF f p q r s = acF f p' q' r' s' ∧ ((0 ≤ q' ∧ 0 ≤ r') ∨ (q' ≤ 0 ∧ r' ≤ 0)) := by
  obtain ⟨g1, g3⟩ := hg
  rw [acF_1] at g1
  rw [acF_3] at g3
  have evn : ∀ (f : Fm) (x y : Int), evF f (-x) (-y) = evF f x y := by
    intro f x y
    simp only [evF]
    grind
  -- with p above 0
  have main : ∀ p q r s : Int, 0 < p → p * s - q * r = 1 → 0 < evF f p r → evF f q s < 0 → 0 < s ∧ ((0 ≤ q ∧ 0 ≤ r) ∨ (q ≤ 0 ∧ r ≤ 0)) := by
    intro p q r s hp h1 g1 g3
    rcases Int.lt_trichotomy s 0 with hs | hs | hs
    · exfalso
      have l : p * s < 0 := Int.mul_neg_of_pos_of_neg hp hs
      rcases Int.lt_trichotomy r 0 with hr | hr | hr
      · rcases Int.lt_or_le q 0 with hq | hq
        · have := Int.mul_pos_of_neg_of_neg hq hr
          omega
        · obtain ⟨a, b, c⟩ := f
          have := cone1 (f := (a, -b, c)) hf (x := p) (y := -r) (x' := q) (y' := -s) (by omega) (by omega) (by omega) (by omega) (by simp only [evF] at g1 ⊢; grind) (by simp only [evF] at g3 ⊢; grind)
          grind
      · rw [hr] at h1
        omega
      · rcases Int.lt_or_le 0 q with hq | hq
        · have := Int.mul_pos hq hr
          omega
        · have := cone1 hf (x := p) (y := r) (x' := -q) (y' := -s) (by omega) (by omega) (by omega) (by omega) g1 (by rw [evn]; exact g3)
          grind
    · exfalso
      rw [hs] at g3
      have : 0 ≤ f.1 * q * q := by
        rw [Int.mul_assoc]
        exact Int.mul_nonneg (Int.le_of_lt hf.1) (sqn q)
      simp only [evF] at g3
      grind
    · refine ⟨hs, ?_⟩
      have l : 0 < p * s := Int.mul_pos hp hs
      rcases Int.lt_or_le q 0 with hq | hq
      · rcases Int.lt_or_le 0 r with hr | hr
        · have := Int.mul_neg_of_neg_of_pos hq hr
          omega
        · exact Or.inr ⟨by omega, hr⟩
      · rcases Int.lt_or_le r 0 with hr | hr
        · by_cases hq0 : q = 0
          · exact Or.inr ⟨by omega, by omega⟩
          · have := Int.mul_neg_of_pos_of_neg (show 0 < q by omega) hr
            omega
        · exact Or.inl ⟨hq, hr⟩
  rcases Int.lt_trichotomy p 0 with hp | hp | hp
  · have := main (-p) (-q) (-r) (-s) (by omega) (by grind) (by rw [evn]; exact g1) (by rw [evn]; exact g3)
    exact ⟨-p, -q, -r, -s, by omega, this.1, by grind, (acF_neg _ _ _ _ _).symm, this.2⟩
  · exfalso
    rw [hp] at g1
    have : f.2.2 * r * r ≤ 0 := by
      rw [Int.mul_assoc]
      exact Int.mul_nonpos_of_nonpos_of_nonneg (Int.le_of_lt hf.2) (sqn r)
    simp only [evF] at g1
    grind
  · have := main p q r s hp h1 g1 g3
    exact ⟨p, q, r, s, hp, this.1, h1, rfl, this.2⟩
/-- a step along the river -/
def Rf (f : Fm) : Fm := if 0 < f.1 + f.2.1 + f.2.2 then (f.1 + f.2.1 + f.2.2, f.2.1 + 2 * f.2.2, f.2.2) else (f.1, f.2.1 + 2 * f.1, f.1 + f.2.1 + f.2.2)
def itR : Nat → Fm → Fm
  | 0, f => f
  | n + 1, f => itR n (Rf f)
theorem Rf_u {f : Fm} (h : 0 < evF f 1 1) : Rf f = acF f 1 0 1 1 := by
  obtain ⟨a, b, c⟩ := f
  simp only [evF] at h
  unfold Rf
  rw [if_pos (by simp only; omega)]
  simp only [acF, Prod.mk.injEq]
  refine ⟨by grind, by grind, by grind⟩
theorem Rf_l {f : Fm} (h : evF f 1 1 < 0) : Rf f = acF f 1 1 0 1 := by
  obtain ⟨a, b, c⟩ := f
  simp only [evF] at h
  unfold Rf
  rw [if_neg (by simp only; omega)]
  simp only [acF, Prod.mk.injEq]
  refine ⟨by grind, by grind, by grind⟩
theorem nsq_ev11 {f : Fm} {d : Int} (hn : nsq d) (hd : dF f = d) : evF f 1 1 ≠ 0 := by
  have := nsq_m hn hd
  simp only [evF]
  omega
theorem river_on {d : Int} (hn : nsq d) : ∀ (n : Nat) (f : Fm) (p q r s : Int), p + q + r + s ≤ n → rvF f → dF f = d → 0 < p → 0 < s → 0 ≤ q → 0 ≤ r → p * s - q * r = 1 → rvF (acF f p q r s) → ∃ k, acF f p q r s = itR k f := by
  intro n
  induction n with
  | zero =>
    intro f p q r s hs
    omega
  | succ n ih =>
    intro f p q r s hsum hf hd hp hs hq hr h1 hg
    have hg' := hg
    obtain ⟨g1, g3⟩ := hg'
    rw [acF_1] at g1
    rw [acF_3] at g3
    have hne := nsq_ev11 hn hd
    rcases Int.lt_or_le r p with hrp | hrp
    · rcases Int.lt_or_le q s with hqs | hqs
      · have l1 : (r + 1) * s ≤ p * s := Int.mul_le_mul_of_nonneg_right (by omega) (by omega)
        have l2 : r * q ≤ r * (s - 1) := Int.mul_le_mul_of_nonneg_left (by omega) hr
        have l3 : s + r ≤ 1 := by grind
        have hs1 : s = 1 := by omega
        have hr0 : r = 0 := by omega
        have hq0 : q = 0 := by omega
        subst hs1 hr0 hq0
        have hp1 : p = 1 := by omega
        subst hp1
        exact ⟨0, acF_one f⟩
      · have hneg : evF f 1 1 < 0 := by
          rcases Int.lt_or_le (evF f 1 1) 0 with h | h
          · exact h
          · have := cone1 hf (x := 1) (y := 1) (x' := q) (y' := s) (by decide) (by decide) hq (by omega) (by omega) g3
            omega
        have e : acF f p q r s = acF (Rf f) (p - r) (q - s) r s := by
          rw [Rf_l hneg, acF_acF]
          congr 1 <;> omega
        have hrv : rvF (Rf f) := by
          rw [Rf_l hneg]
          refine ⟨?_, ?_⟩
          · rw [acF_1]
            have := hf.1
            simp only [evF]
            omega
          · rw [acF_3]
            exact hneg
        obtain ⟨k, hk⟩ := ih (Rf f) (p - r) (q - s) r s (by omega) hrv (by rw [Rf_l hneg, dF_acF _ _ _ _ _ (by decide)]; exact hd) (by omega) hs (by omega) hr (by grind) (e ▸ hg)
        exact ⟨k + 1, by rw [e, hk]; rfl⟩
    · have hsq : q < s := by
        rcases Int.lt_or_le q s with h | h
        · exact h
        · have l1 : p * s ≤ p * q := Int.mul_le_mul_of_nonneg_left h (by omega)
          have l2 : q * p ≤ q * r := Int.mul_le_mul_of_nonneg_left hrp hq
          grind
      have hpos : 0 < evF f 1 1 := by
        rcases Int.lt_or_le 0 (evF f 1 1) with h | h
        · exact h
        · have := cone1 hf (x := p) (y := r) (x' := 1) (y' := 1) (by omega) hr (by decide) (by decide) g1 (by omega)
          omega
      have e : acF f p q r s = acF (Rf f) p q (r - p) (s - q) := by
        rw [Rf_u hpos, acF_acF]
        congr 1 <;> omega
      have hrv : rvF (Rf f) := by
        rw [Rf_u hpos]
        refine ⟨?_, ?_⟩
        · rw [acF_1]
          exact hpos
        · rw [acF_3]
          have := hf.2
          simp only [evF]
          omega
      obtain ⟨k, hk⟩ := ih (Rf f) p q (r - p) (s - q) (by omega) hrv (by rw [Rf_u hpos, dF_acF _ _ _ _ _ (by decide)]; exact hd) hp (by omega) hq (by omega) (by grind) (e ▸ hg)
      exact ⟨k + 1, by rw [e, hk]; rfl⟩
theorem river_both {d : Int} (hn : nsq d) {f g : Fm} (hf : rvF f) (hg : rvF g) (hd : dF f = d) (he : Eqv f g) : ∃ k, g = itR k f ∨ f = itR k g := by
  obtain ⟨p, q, r, s, h1, rfl⟩ := he
  obtain ⟨p', q', r', s', hp, hs, h2, e, hor⟩ := river_sign hf h1 hg
  rw [e] at hg ⊢
  rcases hor with ⟨hq, hr⟩ | ⟨hq, hr⟩
  · obtain ⟨k, hk⟩ := river_on hn (p' + q' + r' + s').toNat f p' q' r' s' (by omega) hf hd hp hs hq hr h2 hg
    exact ⟨k, Or.inl hk⟩
  · have e2 := acF_inv f h2
    have hd2 := dF_acF f p' q' r' s' h2
    generalize acF f p' q' r' s' = g at *
    obtain ⟨k, hk⟩ := river_on hn (s' + -q' + -r' + p').toNat g s' (-q') (-r') p' (by omega) hg (by omega) hs hp (by omega) (by omega) (by grind) (by rw [e2]; exact hf)
    exact ⟨k, Or.inr (by rw [← hk, e2])⟩
