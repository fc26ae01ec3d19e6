/-! along an orbit the sizes fall and then rise -/
theorem uni {V : mxI} (h : dM V = 1) {z : xI} (hz : z ≠ (0, 0)) {T : Nat} (hT : V.1 + V.2.2.2 = T) (hT3 : 3 ≤ T) (h0 : ∀ j, ¬ ((orb V z j).2 = 0 ∧ (orb V z (j + 1)).2 = 0)) : ∃ ms : Int, (∀ j, btZ (trn (orb V z (j + 1))) (trn (orb V z j)) ↔ j < ms) ∧ (∀ k : Nat, (T - 1) ^ k ≤ (orb V z (ms + 1 + k)).2.natAbs ∧ (T - 1) ^ k ≤ (orb V z (ms - 1 - k)).2.natAbs) ∧ (∀ j, ms ≤ j → (orb V z j).2.natAbs ≤ (orb V z (j + 1)).2.natAbs) ∧ (∀ j, j < ms → (orb V z (j + 1)).2.natAbs ≤ (orb V z j).2.natAbs) := by
  obtain ⟨Y, hY⟩ : ∃ Y : Int → Nat, ∀ j, Y j = (orb V z j).2.natAbs := ⟨fun j => (orb V z j).2.natAbs, fun _ => rfl⟩
  have ne := fun j => orb_ne h hz j
  have tab : ∀ j, (trn (orb V z j)).2.natAbs = Y j := fun j => by rw [(trn_abs _).2, hY]
  -- growth
  have tri : ∀ j, T * Y j ≤ Y (j + 1) + Y (j - 1) := by
    intro j
    have e := (orb_rec h z j).1
    rw [hT] at e
    have h1 := Int.natAbs_add_le (orb V z (j + 1)).2 (orb V z (j - 1)).2
    rw [e, Int.natAbs_mul, Int.natAbs_natCast] at h1
    rw [hY, hY, hY]
    exact h1
  have nz : ∀ j, 0 < Y j ∨ 0 < Y (j + 1) := by
    intro j
    have := h0 j
    rw [hY, hY]
    omega
  have mulT : ∀ x, (T - 1) * x + x = T * x := fun x => by
    rw [← Nat.succ_mul, show (T - 1).succ = T by omega]
  have two : ∀ x, 2 * x ≤ (T - 1) * x := fun x => Nat.mul_le_mul_right x (by omega)
  have g1 : ∀ j, Y j ≤ Y (j + 1) → (T - 1) * Y (j + 1) ≤ Y (j + 2) ∧ 0 < Y (j + 1) := by
    intro j hj
    have a := tri (j + 1)
    rw [show j + 1 + 1 = j + 2 by omega, show j + 1 - 1 = j by omega, ← mulT] at a
    have := nz j
    omega
  have g2 : ∀ j, Y (j + 1) ≤ Y j → (T - 1) * Y j ≤ Y (j - 1) ∧ 0 < Y j := by
    intro j hj
    have a := tri j
    rw [← mulT] at a
    have := nz j
    omega
  have bet : ∀ j, btZ (trn (orb V z (j + 1))) (trn (orb V z j)) → Y (j + 1) ≤ Y j := by
    intro j hb
    have e1 := tab (j + 1)
    have e2 := tab j
    unfold btZ at hb
    omega
  have nbet : ∀ j, ¬ btZ (trn (orb V z (j + 1))) (trn (orb V z j)) → Y j ≤ Y (j + 1) := by
    intro j hb
    have e1 := tab (j + 1)
    have e2 := tab j
    unfold btZ at hb
    omega
  have lt_bet : ∀ j, Y (j + 1) < Y j → btZ (trn (orb V z (j + 1))) (trn (orb V z j)) := by
    intro j hb
    have e1 := tab (j + 1)
    have e2 := tab j
    exact Or.inl (by omega)
  have up : ∀ j, ¬ btZ (trn (orb V z (j + 1))) (trn (orb V z j)) → ¬ btZ (trn (orb V z (j + 1 + 1))) (trn (orb V z (j + 1))) := by
    intro j hb hb'
    have a := nbet j hb
    have b := bet (j + 1) hb'
    obtain ⟨c, c0⟩ := g1 j a
    have := two (Y (j + 1))
    rw [show j + 1 + 1 = j + 2 by omega] at b
    omega
  have upk : ∀ (j : Int), ¬ btZ (trn (orb V z (j + 1))) (trn (orb V z j)) → ∀ k : Nat, ¬ btZ (trn (orb V z (j + k + 1))) (trn (orb V z (j + k))) := by
    intro j hb k
    induction k with
    | zero =>
      rw [show j + ((0 : Nat) : Int) = j by omega]
      exact hb
    | succ k ih =>
      have := up (j + k) ih
      rw [show j + ((k + 1 : Nat) : Int) = j + k + 1 by omega]
      exact this
  -- somewhere it does not get better
  have ex1 : ∃ k : Nat, ¬ btZ (trn (orb V z ((k : Int) + 1))) (trn (orb V z k)) := by
    by_cases c : ∃ k : Nat, ¬ btZ (trn (orb V z ((k : Int) + 1))) (trn (orb V z k))
    · exact c
    · exfalso
      have al : ∀ k : Nat, btZ (trn (orb V z ((k : Int) + 1))) (trn (orb V z k)) := fun k => Classical.byContradiction (fun q => c ⟨k, q⟩)
      have st : ∀ k : Nat, Y ((k : Int) + 1) < Y k := by
        intro k
        rcases Nat.lt_or_ge (Y ((k : Int) + 1)) (Y k) with q | q
        · exact q
        · exfalso
          obtain ⟨c1, c0⟩ := g1 k q
          have b := bet _ (al (k + 1))
          rw [show ((k + 1 : Nat) : Int) + 1 = (k : Int) + 2 by omega, show ((k + 1 : Nat) : Int) = (k : Int) + 1 by omega] at b
          have := two (Y ((k : Int) + 1))
          omega
      have dn : ∀ k : Nat, Y (k : Int) + k ≤ Y 0 := by
        intro k
        induction k with
        | zero => exact Nat.le_refl _
        | succ k ih =>
          have := st k
          rw [show ((k + 1 : Nat) : Int) = (k : Int) + 1 by omega]
          omega
      have := dn (Y 0 + 1)
      omega
  -- somewhere before it does
  have ex2 : ∃ k : Nat, btZ (trn (orb V z (-(k : Int)))) (trn (orb V z (-(k : Int) - 1))) := by
    by_cases c : ∃ k : Nat, btZ (trn (orb V z (-(k : Int)))) (trn (orb V z (-(k : Int) - 1)))
    · exact c
    · exfalso
      have al : ∀ k : Nat, ¬ btZ (trn (orb V z (-(k : Int)))) (trn (orb V z (-(k : Int) - 1))) := fun k q => c ⟨k, q⟩
      have le : ∀ k : Nat, Y (-(k : Int) - 1) ≤ Y (-(k : Int)) := by
        intro k
        have := nbet (-(k : Int) - 1) (by rw [show -(k : Int) - 1 + 1 = -(k : Int) by omega]; exact al k)
        rwa [show -(k : Int) - 1 + 1 = -(k : Int) by omega] at this
      have st : ∀ k : Nat, Y (-(k : Int) - 1) < Y (-(k : Int)) := by
        intro k
        rcases Nat.lt_or_ge (Y (-(k : Int) - 1)) (Y (-(k : Int))) with q | q
        · exact q
        · exfalso
          obtain ⟨c1, c0⟩ := g2 (-(k : Int) - 1) (by rw [show -(k : Int) - 1 + 1 = -(k : Int) by omega]; exact q)
          have b := le (k + 1)
          rw [show -((k + 1 : Nat) : Int) = -(k : Int) - 1 by omega] at b
          have := two (Y (-(k : Int) - 1))
          omega
      have dn : ∀ k : Nat, Y (-(k : Int)) + k ≤ Y 0 := by
        intro k
        induction k with
        | zero => exact Nat.le_refl _
        | succ k ih =>
          have := st k
          rw [show -((k + 1 : Nat) : Int) = -(k : Int) - 1 by omega]
          omega
      have := dn (Y 0 + 1)
      omega
  obtain ⟨k1, hk1⟩ := ex1
  obtain ⟨k2, hk2⟩ := ex2
  obtain ⟨m, m1, m2, m3⟩ := least_of (P := fun m : Nat => ¬ btZ (trn (orb V z (-(k2 : Int) - 1 + m + 1))) (trn (orb V z (-(k2 : Int) - 1 + m)))) (k2 + 1 + k1) (by
    rw [show -(k2 : Int) - 1 + ((k2 + 1 + k1 : Nat) : Int) = (k1 : Int) by omega]
    exact hk1)
  have iff : ∀ j, btZ (trn (orb V z (j + 1))) (trn (orb V z j)) ↔ j < -(k2 : Int) - 1 + m := by
    intro j
    constructor
    · intro hb
      rcases Int.lt_or_le j (-(k2 : Int) - 1 + m) with q | q
      · exact q
      · have := upk _ m2 (j - (-(k2 : Int) - 1 + m)).toNat
        rw [show -(k2 : Int) - 1 + m + ((j - (-(k2 : Int) - 1 + m)).toNat : Int) = j by omega] at this
        exact (this hb).elim
    · intro hj
      rcases Int.lt_or_le j (-(k2 : Int) - 1) with q | q
      · -- before the first one: by going up from j
        by_cases c : btZ (trn (orb V z (j + 1))) (trn (orb V z j))
        · exact c
        · have := upk j c (-(k2 : Int) - 1 - j).toNat
          rw [show j + ((-(k2 : Int) - 1 - j).toNat : Int) = -(k2 : Int) - 1 by omega, show -(k2 : Int) - 1 + 1 = -(k2 : Int) by omega] at this
          exact (this hk2).elim
      · have := m3 (j - (-(k2 : Int) - 1)).toNat (by omega)
        rw [show -(k2 : Int) - 1 + ((j - (-(k2 : Int) - 1)).toNat : Int) = j by omega] at this
        exact Classical.byContradiction this
  generalize -(k2 : Int) - 1 + m = ms at *
  have up1 : ∀ j, ms ≤ j → Y j ≤ Y (j + 1) := fun j hj => nbet j (fun q => by have := (iff j).1 q; omega)
  have dn1 : ∀ j, j < ms → Y (j + 1) ≤ Y j := fun j hj => bet j ((iff j).2 hj)
  refine ⟨ms, iff, fun k => ?_, fun j hj => ?_, fun j hj => ?_⟩
  · rw [← hY, ← hY]
    constructor
    · induction k with
      | zero =>
        have := (g1 ms (up1 ms (by omega))).2
        rw [show ms + 1 + ((0 : Nat) : Int) = ms + 1 by omega]
        exact this
      | succ k ih =>
        have a := (g1 (ms + k) (up1 _ (by omega))).1
        rw [show ms + k + 1 = ms + 1 + k by omega, show ms + k + 2 = ms + 1 + ((k + 1 : Nat) : Int) by omega] at a
        rw [Nat.pow_succ, Nat.mul_comm]
        exact Nat.le_trans (Nat.mul_le_mul_left _ ih) a
    · induction k with
      | zero =>
        have := (g2 (ms - 1) (dn1 (ms - 1) (by omega))).2
        rw [show ms - 1 - ((0 : Nat) : Int) = ms - 1 by omega]
        exact this
      | succ k ih =>
        have a := (g2 (ms - 1 - k) (dn1 _ (by omega))).1
        rw [show ms - 1 - (k : Int) - 1 = ms - 1 - ((k + 1 : Nat) : Int) by omega] at a
        rw [Nat.pow_succ, Nat.mul_comm]
        exact Nat.le_trans (Nat.mul_le_mul_left _ ih) a
  · rw [← hY, ← hY]
    exact up1 j hj
  · rw [← hY, ← hY]
    exact dn1 j hj
/-- sizes between the start and the best -/
theorem uni_le {V : mxI} {z : xI} {ms : Int} (h1 : ∀ j, ms ≤ j → (orb V z j).2.natAbs ≤ (orb V z (j + 1)).2.natAbs) (h2 : ∀ j, j < ms → (orb V z (j + 1)).2.natAbs ≤ (orb V z j).2.natAbs) {i j : Int} (h : (i ≤ j ∧ j ≤ ms) ∨ (ms ≤ j ∧ j ≤ i)) : (orb V z j).2.natAbs ≤ (orb V z i).2.natAbs := by
  rcases h with ⟨a, b⟩ | ⟨a, b⟩
  · have key : ∀ k : Nat, i + k ≤ ms → (orb V z (i + k)).2.natAbs ≤ (orb V z i).2.natAbs := by
      intro k
      induction k with
      | zero => intro _; rw [show i + ((0 : Nat) : Int) = i by omega]; exact Nat.le_refl _
      | succ k ih =>
        intro hk
        have := h2 (i + k) (by omega)
        rw [show i + ((k + 1 : Nat) : Int) = i + k + 1 by omega]
        exact Nat.le_trans this (ih (by omega))
    have := key (j - i).toNat (by omega)
    rwa [show i + ((j - i).toNat : Int) = j by omega] at this
  · have key : ∀ k : Nat, ms ≤ i - k → (orb V z (i - k)).2.natAbs ≤ (orb V z i).2.natAbs := by
      intro k
      induction k with
      | zero => intro _; rw [show i - ((0 : Nat) : Int) = i by omega]; exact Nat.le_refl _
      | succ k ih =>
        intro hk
        have := h1 (i - ((k + 1 : Nat) : Int)) (by omega)
        rw [show i - ((k + 1 : Nat) : Int) + 1 = i - k by omega] at this
        exact Nat.le_trans this (ih (by omega))
    have := key (i - j).toNat (by omega)
    rwa [show i - ((i - j).toNat : Int) = j by omega] at this
/-- how far the best one is -/
theorem uni_far {V : mxI} {z : xI} {ms : Int} {T k : Nat} (hT3 : 3 ≤ T) (hg : ∀ k : Nat, (T - 1) ^ k ≤ (orb V z (ms + 1 + k)).2.natAbs ∧ (T - 1) ^ k ≤ (orb V z (ms - 1 - k)).2.natAbs) {i : Int} (hi : (orb V z i).2.natAbs < (T - 1) ^ k) : -(k : Int) ≤ i - ms ∧ i - ms ≤ k := by
  have pm : ∀ a b : Nat, a ≤ b → (T - 1) ^ a ≤ (T - 1) ^ b := fun a b hab => Nat.pow_le_pow_right (by omega) hab
  constructor
  · rcases Int.lt_or_le (i - ms) (-(k : Int)) with q | q
    · exfalso
      have := (hg (ms - 1 - i).toNat).2
      rw [show ms - 1 - ((ms - 1 - i).toNat : Int) = i by omega] at this
      have p := pm k (ms - 1 - i).toNat (by omega)
      omega
    · exact q
  · rcases Int.lt_or_le (k : Int) (i - ms) with q | q
    · exfalso
      have := (hg (i - ms - 1).toNat).1
      rw [show ms + 1 + ((i - ms - 1).toNat : Int) = i by omega] at this
      have p := pm k (i - ms - 1).toNat (by omega)
      omega
    · exact q
/-- the first number of a solution, by the second -/
theorem x_by_y {f : Fm} {x y n : Int} (ha : f.1 ≠ 0) (h : evF f x y = n) : x.natAbs ≤ (f.2.1.natAbs + f.2.2.natAbs + 1) * y.natAbs + n.natAbs := by
  obtain ⟨a, b, c⟩ := f
  have h' : a * x * x + b * x * y + c * y * y = n := h
  simp only at ha ⊢
  rcases Nat.lt_or_ge ((b.natAbs + c.natAbs + 1) * y.natAbs + n.natAbs) x.natAbs with z | z
  · exfalso
    have e1 : (a * x * x).natAbs ≤ (b * x * y).natAbs + (c * y * y).natAbs + n.natAbs := by
      have : a * x * x = n - b * x * y - c * y * y := by omega
      rw [this]
      omega
    have e2 : (a * x * x).natAbs = a.natAbs * (x.natAbs * x.natAbs) := by rw [Int.natAbs_mul, Int.natAbs_mul, Nat.mul_assoc]
    have e3 : (b * x * y).natAbs = b.natAbs * x.natAbs * y.natAbs := by rw [Int.natAbs_mul, Int.natAbs_mul]
    have e4 : (c * y * y).natAbs = c.natAbs * (y.natAbs * y.natAbs) := by rw [Int.natAbs_mul, Int.natAbs_mul, Nat.mul_assoc]
    rw [e2, e3, e4] at e1
    have a1 : 1 ≤ a.natAbs := by omega
    generalize a.natAbs = A at *
    generalize b.natAbs = B at *
    generalize c.natAbs = C at *
    generalize x.natAbs = X at *
    generalize y.natAbs = Y at *
    generalize n.natAbs = N at *
    have q1 : 1 * (X * X) ≤ A * (X * X) := Nat.mul_le_mul_right _ a1
    have q2 : ((B + C + 1) * Y + N + 1) * X ≤ X * X := Nat.mul_le_mul_right X (by omega)
    have q3 : ((B + C + 1) * Y + N + 1) * X = B * X * Y + C * (X * Y) + X * Y + N * X + X := by grind
    have yx : Y ≤ X := by
      have : 1 * Y ≤ (B + C + 1) * Y := Nat.mul_le_mul_right Y (by omega)
      omega
    have q4 : C * (Y * Y) ≤ C * (X * Y) := Nat.mul_le_mul_left C (Nat.mul_le_mul_right Y yx)
    have q5 : N * 1 ≤ N * X := Nat.mul_le_mul_left N (by omega)
    omega
  · exact z
