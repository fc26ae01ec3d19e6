/-! sizes of the matrices along a ring; automorphs -/
theorem abs_add {a b : Int} (h : 0 ≤ a * b) : (a + b).natAbs = a.natAbs + b.natAbs := by
  rcases Int.lt_trichotomy a 0 with ha | ha | ha
  · have : b ≤ 0 := by
      rcases Int.lt_or_le 0 b with hb | hb
      · have := Int.mul_neg_of_neg_of_pos ha hb
        omega
      · exact hb
    omega
  · omega
  · have : 0 ≤ b := by
      rcases Int.lt_or_le b 0 with hb | hb
      · have := Int.mul_neg_of_pos_of_neg ha hb
        omega
      · exact hb
    omega
section
theorem tn_sg {d w : Int} (hn : nsq d) (hd0 : 0 < d) (hw : isWd d w) {f : Fm} (hD : dF f = d) (hr : Red f) : 0 < f.2.2 * nkE d w f.2.1 f.2.2 ∧ f.2.2 * (nx d w f).2.2 < 0 ∧ nkE d w f.2.1 f.2.2 ≠ 0 := by
  have hc := nsq_3 hn hD
  have hk := nk_eq (d := d) (w := w) (b := f.2.1) hc
  have hnb := (nb_red hn hd0 hw hD hr).1
  have hb := hr.2.1
  have h1 : (nx d w f).1 * (nx d w f).2.2 < 0 := (nx_red hn hd0 hw hD hr).1
  have h2 : 0 < f.2.2 * nkE d w f.2.1 f.2.2 := by
    have e : 2 * f.2.2 * nkE d w f.2.1 f.2.2 = 2 * (f.2.2 * nkE d w f.2.1 f.2.2) := by grind
    omega
  refine ⟨h2, h1, fun z => ?_⟩
  rw [z, Int.mul_zero] at h2
  omega
/-- one step: sizes add -/
theorem row_step {d w : Int} (hn : nsq d) (hd0 : 0 < d) (hw : isWd d w) {f : Fm} (hD : dF f = d) (hr : Red f) {x y : Int} (h : f.2.2 * (x * y) ≤ 0) : (y * nkE d w f.2.1 f.2.2 - x).natAbs = (nkE d w f.2.1 f.2.2).natAbs * y.natAbs + x.natAbs ∧ (nx d w f).2.2 * (y * (y * nkE d w f.2.1 f.2.2 - x)) ≤ 0 := by
  obtain ⟨h1, h2, h3⟩ := tn_sg hn hd0 hw hD hr
  generalize nkE d w f.2.1 f.2.2 = k at *
  generalize (nx d w f).2.2 = c' at *
  generalize f.2.2 = c at *
  have hkxy : k * (x * y) ≤ 0 := by
    have e : c * c * (k * (x * y)) = (c * k) * (c * (x * y)) := by grind
    have h4 : (c * k) * (c * (x * y)) ≤ 0 := Int.mul_nonpos_of_nonneg_of_nonpos (by omega) h
    have h5 : 0 < c * c := by
      have := sqn c
      have : c * c ≠ 0 := fun z => by
        rcases Int.mul_eq_zero.1 z with z | z <;> (rw [z, Int.zero_mul] at h1; omega)
      omega
    rcases Int.lt_or_le 0 (k * (x * y)) with z | z
    · have := Int.mul_pos h5 z
      omega
    · exact z
  constructor
  · have e : y * k - x = y * k + -x := by omega
    rw [e, abs_add (by have e : y * k * -x = -(k * (x * y)) := by grind
                       omega), Int.natAbs_neg, Int.natAbs_mul, Nat.mul_comm]
  · have e : c * c * (c' * (y * (y * k - x))) = (c * c') * ((c * k) * (y * y) - c * (x * y)) := by grind
    have h4 : 0 ≤ (c * k) * (y * y) := Int.mul_nonneg (by omega) (sqn y)
    have h5 : (c * c') * ((c * k) * (y * y) - c * (x * y)) ≤ 0 := Int.mul_nonpos_of_nonpos_of_nonneg (by omega) (by omega)
    have h6 : 0 < c * c := by
      have := sqn c
      have : c * c ≠ 0 := fun z => by
        rcases Int.mul_eq_zero.1 z with z | z <;> (rw [z, Int.zero_mul] at h1; omega)
      omega
    rcases Int.lt_or_le 0 (c' * (y * (y * k - x))) with z | z
    · have := Int.mul_pos h6 z
      omega
    · exact z
/-- both rows keep their signs -/
theorem itM_sg {d w : Int} (hn : nsq d) (hd0 : 0 < d) (hw : isWd d w) {g : Fm} (hD : dF g = d) (hr : Red g) : ∀ n : Nat, (itF d w n g).2.2 * ((itM d w n g I2).1 * (itM d w n g I2).2.1) ≤ 0 ∧ (itF d w n g).2.2 * ((itM d w n g I2).2.2.1 * (itM d w n g I2).2.2.2) ≤ 0
  | 0 => ⟨by show g.2.2 * (1 * 0) ≤ 0; omega, by show g.2.2 * (0 * 1) ≤ 0; omega⟩
  | n + 1 => by
    obtain ⟨h1, h2⟩ := itM_sg hn hd0 hw hD hr n
    obtain ⟨D, R⟩ := itF_red hn hd0 hw n g hD hr
    rw [itM_suc, itF_succ]
    exact ⟨(row_step hn hd0 hw D R h1).2, (row_step hn hd0 hw D R h2).2⟩
theorem itM_abs {d w : Int} (hn : nsq d) (hd0 : 0 < d) (hw : isWd d w) {g : Fm} (hD : dF g = d) (hr : Red g) (n : Nat) : ((itM d w (n + 1) g I2).1.natAbs = (itM d w n g I2).2.1.natAbs ∧ (itM d w (n + 1) g I2).2.1.natAbs = (tnF d w g n).natAbs * (itM d w n g I2).2.1.natAbs + (itM d w n g I2).1.natAbs) ∧ (itM d w (n + 1) g I2).2.2.1.natAbs = (itM d w n g I2).2.2.2.natAbs ∧ (itM d w (n + 1) g I2).2.2.2.natAbs = (tnF d w g n).natAbs * (itM d w n g I2).2.2.2.natAbs + (itM d w n g I2).2.2.1.natAbs := by
  obtain ⟨h1, h2⟩ := itM_sg hn hd0 hw hD hr n
  obtain ⟨D, R⟩ := itF_red hn hd0 hw n g hD hr
  rw [itM_suc]
  exact ⟨⟨rfl, (row_step hn hd0 hw D R h1).1⟩, rfl, (row_step hn hd0 hw D R h2).1⟩
theorem tn_ne {d w : Int} (hn : nsq d) (hd0 : 0 < d) (hw : isWd d w) {g : Fm} (hD : dF g = d) (hr : Red g) (n : Nat) : 1 ≤ (tnF d w g n).natAbs := by
  obtain ⟨D, R⟩ := itF_red hn hd0 hw n g hD hr
  have := (tn_sg hn hd0 hw D R).2.2
  unfold tnF
  omega
/-- the second row grows -/
theorem row2_mono {d w : Int} (hn : nsq d) (hd0 : 0 < d) (hw : isWd d w) {g : Fm} (hD : dF g = d) (hr : Red g) : ∀ n : Nat, (itM d w n g I2).2.2.1.natAbs ≤ (itM d w n g I2).2.2.2.natAbs ∧ 1 ≤ (itM d w n g I2).2.2.2.natAbs
  | 0 => by
    show (0 : Int).natAbs ≤ (1 : Int).natAbs ∧ 1 ≤ (1 : Int).natAbs
    decide
  | n + 1 => by
    obtain ⟨h1, h2⟩ := row2_mono hn hd0 hw hD hr n
    obtain ⟨-, a1, a2⟩ := itM_abs hn hd0 hw hD hr n
    have := tn_ne hn hd0 hw hD hr n
    have h3 : 1 * (itM d w n g I2).2.2.2.natAbs ≤ (tnF d w g n).natAbs * (itM d w n g I2).2.2.2.natAbs := Nat.mul_le_mul_right _ this
    rw [a1, a2]
    omega
theorem row2_up {d w : Int} (hn : nsq d) (hd0 : 0 < d) (hw : isWd d w) {g : Fm} (hD : dF g = d) (hr : Red g) (n : Nat) : ∀ m : Nat, (itM d w n g I2).2.2.1.natAbs ≤ (itM d w (n + m) g I2).2.2.1.natAbs ∧ (itM d w n g I2).2.2.2.natAbs ≤ (itM d w (n + m) g I2).2.2.2.natAbs
  | 0 => ⟨Nat.le_refl _, Nat.le_refl _⟩
  | m + 1 => by
    obtain ⟨h1, h2⟩ := row2_up hn hd0 hw hD hr n m
    obtain ⟨-, a1, a2⟩ := itM_abs hn hd0 hw hD hr (n + m)
    have k := (row2_mono hn hd0 hw hD hr (n + m)).1
    have := tn_ne hn hd0 hw hD hr (n + m)
    have h3 : 1 * (itM d w (n + m) g I2).2.2.2.natAbs ≤ (tnF d w g (n + m)).natAbs * (itM d w (n + m) g I2).2.2.2.natAbs := Nat.mul_le_mul_right _ this
    rw [show n + (m + 1) = n + m + 1 by omega, a1, a2]
    omega
/-- the first row grows too (from the first step on) -/
theorem row1_mono {d w : Int} (hn : nsq d) (hd0 : 0 < d) (hw : isWd d w) {g : Fm} (hD : dF g = d) (hr : Red g) : ∀ n : Nat, (itM d w (n + 1) g I2).1.natAbs ≤ (itM d w (n + 1) g I2).2.1.natAbs ∧ 1 ≤ (itM d w (n + 1) g I2).2.1.natAbs
  | 0 => by
    show (0 : Int).natAbs ≤ (0 * nkE d w g.2.1 g.2.2 - 1 : Int).natAbs ∧ 1 ≤ (0 * nkE d w g.2.1 g.2.2 - 1 : Int).natAbs
    rw [Int.zero_mul]
    decide
  | n + 1 => by
    obtain ⟨h1, h2⟩ := row1_mono hn hd0 hw hD hr n
    obtain ⟨⟨a1, a2⟩, -⟩ := itM_abs hn hd0 hw hD hr (n + 1)
    have := tn_ne hn hd0 hw hD hr (n + 1)
    have h3 : 1 * (itM d w (n + 1) g I2).2.1.natAbs ≤ (tnF d w g (n + 1)).natAbs * (itM d w (n + 1) g I2).2.1.natAbs := Nat.mul_le_mul_right _ this
    rw [a1, a2]
    omega
theorem row1_up {d w : Int} (hn : nsq d) (hd0 : 0 < d) (hw : isWd d w) {g : Fm} (hD : dF g = d) (hr : Red g) (n : Nat) : ∀ m : Nat, (itM d w (n + 1) g I2).1.natAbs ≤ (itM d w (n + 1 + m) g I2).1.natAbs ∧ (itM d w (n + 1) g I2).2.1.natAbs ≤ (itM d w (n + 1 + m) g I2).2.1.natAbs
  | 0 => ⟨Nat.le_refl _, Nat.le_refl _⟩
  | m + 1 => by
    obtain ⟨h1, h2⟩ := row1_up hn hd0 hw hD hr n m
    obtain ⟨⟨a1, a2⟩, -⟩ := itM_abs hn hd0 hw hD hr (n + 1 + m)
    have k := (row1_mono hn hd0 hw hD hr (n + m)).1
    rw [show n + m + 1 = n + 1 + m by omega] at k
    have := tn_ne hn hd0 hw hD hr (n + 1 + m)
    have h3 : 1 * (itM d w (n + 1 + m) g I2).2.1.natAbs ≤ (tnF d w g (n + 1 + m)).natAbs * (itM d w (n + 1 + m) g I2).2.1.natAbs := Nat.mul_le_mul_right _ this
    rw [show n + 1 + (m + 1) = n + 1 + m + 1 by omega, a1, a2]
    omega
end
/-- what an automorph is -/
theorem aut_form {a b c p q r s : Int} (ha : a ≠ 0) (hpr : Prim (a, b, c)) (hdet : p * s - q * r = 1) (h : acF (a, b, c) p q r s = (a, b, c)) : ∃ S : Int, r = a * S ∧ q = -c * S ∧ s - p = b * S := by
  have h1 : a * p * p + b * p * r + c * r * r = a := congrArg (fun f : Fm => f.1) h
  have h2 : 2 * a * p * q + b * (p * s + q * r) + 2 * c * r * s = b := congrArg (fun f : Fm => f.2.1) h
  -- 2 a p + b r = 2 a s - b r ... : a (s - p) = b r
  have e1 : a * (s - p) = b * r := by
    have k1 : (2 * a * p + b * r) * (p * s - q * r) = 2 * s * (a * p * p + b * p * r + c * r * r) - r * (2 * a * p * q + b * (p * s + q * r) + 2 * c * r * s) := by grind
    rw [hdet, h1, h2] at k1
    grind
  have e2 : a * q = -c * r := by
    have k1 : (b * p + 2 * c * r) * (p * s - q * r) = p * (2 * a * p * q + b * (p * s + q * r) + 2 * c * r * s) - 2 * q * (a * p * p + b * p * r + c * r * r) := by grind
    rw [hdet, h1, h2] at k1
    grind
  obtain ⟨u, v, x, hu⟩ := hpr
  simp only at hu
  refine ⟨u * r + v * (s - p) - x * q, ?_, ?_, ?_⟩
  · have : a * (u * r + v * (s - p) - x * q) = u * a * r + v * (a * (s - p)) - x * (a * q) := by grind
    rw [this, e1, e2]
    have : u * a * r + v * (b * r) - x * (-c * r) = (u * a + v * b + x * c) * r := by grind
    rw [this, hu, Int.one_mul]
  · refine Int.eq_of_mul_eq_mul_left ha ?_
    have : a * (-c * (u * r + v * (s - p) - x * q)) = -c * (u * a * r + v * (a * (s - p)) - x * (a * q)) := by grind
    rw [this, e1, e2]
    have : u * a * r + v * (b * r) - x * (-c * r) = (u * a + v * b + x * c) * r := by grind
    rw [this, hu, Int.one_mul]
  · refine Int.eq_of_mul_eq_mul_left ha ?_
    have : a * (b * (u * r + v * (s - p) - x * q)) = b * (u * a * r + v * (a * (s - p)) - x * (a * q)) := by grind
    rw [this, e1, e2]
    have : u * a * r + v * (b * r) - x * (-c * r) = (u * a + v * b + x * c) * r := by grind
    rw [this, hu, Int.one_mul]
theorem aut_pell {a b c p q r s S : Int} (hdet : p * s - q * r = 1) (hr : r = a * S) (hq : q = -c * S) (hs : s - p = b * S) : (p + s) * (p + s) - (b * b - 4 * a * c) * (S * S) = 4 := by
  have e : (p + s) * (p + s) = (s - p) * (s - p) + 4 * (p * s) := by grind
  have e2 : p * s = 1 + q * r := by omega
  rw [e, e2, hs, hq, hr]
  grind
