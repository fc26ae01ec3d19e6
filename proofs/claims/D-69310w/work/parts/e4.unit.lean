/-! the unit: the same for every ring -/
/-- the least solution of t t - d u u = 4 -/
def isPu (d t u : Int) : Prop := 0 < t ∧ 0 < u ∧ t * t - d * (u * u) = 4 ∧ ∀ T S : Int, 0 < T → 0 < S → T * T - d * (S * S) = 4 → u ≤ S
/-- the automorph of a form by a unit -/
def auM (f : Fm) (t u : Int) : mxI := ((t - f.2.1 * u) / 2, -f.2.2 * u, f.1 * u, (t + f.2.1 * u) / 2)
def isRn (d w : Int) (g : Fm) (N : Nat) : Prop := 0 < N ∧ itF d w N g = g ∧ ∀ i, 0 < i → i < N → itF d w i g ≠ g
theorem par_unit {a b c t u d : Int} (hD : b * b - 4 * a * c = d) (h : t * t - d * (u * u) = 4) : (t - b * u) % 2 = 0 := by
  have e : (t - b * u) * (t + b * u) = 4 * (1 - a * c * (u * u)) := by
    rw [← hD] at h
    grind
  have h2 : (t - b * u) % 2 = 0 ∨ (t - b * u) % 2 = 1 := by omega
  rcases h2 with z | z
  · exact z
  · exfalso
    have e1 : t + b * u = (t - b * u) + 2 * (b * u) := by omega
    generalize t - b * u = x at *
    generalize b * u = y at *
    rw [e1] at e
    obtain ⟨k, hk⟩ : ∃ k, x = 2 * k + 1 := ⟨x / 2, by omega⟩
    generalize 1 - a * c * (u * u) = q at e
    have : (2 * k + 1) * (2 * k + 1 + 2 * y) = 2 * (2 * (k * k) + 2 * k + 2 * (k * y) + y) + 1 := by grind
    rw [hk, this] at e
    omega
theorem half_unit {a b c t u d : Int} (hD : b * b - 4 * a * c = d) (h : t * t - d * (u * u) = 4) : ∃ p s : Int, (t - b * u) / 2 = p ∧ (t + b * u) / 2 = s ∧ t - b * u = 2 * p ∧ t + b * u = 2 * s ∧ s - p = b * u ∧ p + s = t ∧ p * s = 1 - a * c * (u * u) := by
  have hp := par_unit hD h
  refine ⟨(t - b * u) / 2, (t + b * u) / 2, rfl, rfl, by omega, by omega, by omega, by omega, ?_⟩
  obtain ⟨p, hp'⟩ : ∃ p, t - b * u = 2 * p := ⟨(t - b * u) / 2, by omega⟩
  have e1 : (t - b * u) / 2 = p := by omega
  have e2 : (t + b * u) / 2 = p + b * u := by omega
  rw [e1, e2]
  have e3 : t = 2 * p + b * u := by omega
  rw [e3, ← hD] at h
  grind
theorem auM_det {f : Fm} {d t u : Int} (hD : dF f = d) (h : t * t - d * (u * u) = 4) : dM (auM f t u) = 1 := by
  obtain ⟨a, b, c⟩ := f
  obtain ⟨p, s, h1, h2, h3, h4, h5, h6, h7⟩ := half_unit (a := a) (b := b) (c := c) hD h
  simp only [dM, auM]
  rw [h1, h2, h7]
  grind
theorem auM_ac {f : Fm} {d t u : Int} (hD : dF f = d) (h : t * t - d * (u * u) = 4) : acM f (auM f t u) = f := by
  obtain ⟨a, b, c⟩ := f
  obtain ⟨p, s, h1, h2, h3, h4, h5, h6, h7⟩ := half_unit (a := a) (b := b) (c := c) hD h
  have e : s = p + b * u := by omega
  show (a * ((t - b * u) / 2) * ((t - b * u) / 2) + b * ((t - b * u) / 2) * (a * u) + c * (a * u) * (a * u), 2 * a * ((t - b * u) / 2) * (-c * u) + b * ((t - b * u) / 2 * ((t + b * u) / 2) + -c * u * (a * u)) + 2 * c * (a * u) * ((t + b * u) / 2), a * (-c * u) * (-c * u) + b * (-c * u) * ((t + b * u) / 2) + c * ((t + b * u) / 2) * ((t + b * u) / 2)) = (a, b, c)
  rw [h1, h2]
  simp only [Prod.mk.injEq]
  subst e
  refine ⟨?_, ?_, ?_⟩
  · have : a * p * p + b * p * (a * u) + c * (a * u) * (a * u) = a * (p * (p + b * u)) + a * (a * c * (u * u)) := by grind
    rw [this, h7]
    grind
  · have : 2 * a * p * (-c * u) + b * (p * (p + b * u) + -c * u * (a * u)) + 2 * c * (a * u) * (p + b * u) = b * (p * (p + b * u)) + b * (a * c * (u * u)) := by grind
    rw [this, h7]
    grind
  · have : a * (-c * u) * (-c * u) + b * (-c * u) * (p + b * u) + c * (p + b * u) * (p + b * u) = c * (p * (p + b * u)) + c * (a * c * (u * u)) := by grind
    rw [this, h7]
    grind
theorem auM_conj {f : Fm} {m : mxI} {d t u : Int} (hD : dF f = d) (h : t * t - d * (u * u) = 4) (hm : dM m = 1) : mm (auM f t u) m = mm m (auM (acM f m) t u) := by
  obtain ⟨a, b, c⟩ := f
  obtain ⟨P, Q, R, S⟩ := m
  have hm' : P * S - Q * R = 1 := hm
  have hD2 : dF (acM (a, b, c) (P, Q, R, S)) = d := by
    rw [acM, dF_acF _ _ _ _ _ hm]
    exact hD
  obtain ⟨p, s, h1, h2, h3, h4, h5, h6, h7⟩ := half_unit (a := a) (b := b) (c := c) hD h
  obtain ⟨a', ha'⟩ : ∃ a', a * P * P + b * P * R + c * R * R = a' := ⟨_, rfl⟩
  obtain ⟨b', hb'⟩ : ∃ b', 2 * a * P * Q + b * (P * S + Q * R) + 2 * c * R * S = b' := ⟨_, rfl⟩
  obtain ⟨c', hc'⟩ : ∃ c', a * Q * Q + b * Q * S + c * S * S = c' := ⟨_, rfl⟩
  have eg : acM (a, b, c) (P, Q, R, S) = (a', b', c') := by
    show (a * P * P + b * P * R + c * R * R, 2 * a * P * Q + b * (P * S + Q * R) + 2 * c * R * S, a * Q * Q + b * Q * S + c * S * S) = _
    rw [ha', hb', hc']
  rw [eg] at hD2 ⊢
  obtain ⟨p', s', k1, k2, k3, k4, k5, k6, k7⟩ := half_unit (a := a') (b := b') (c := c') hD2 h
  have r1 : -P * b' + 2 * Q * a' = -b * P - 2 * c * R := by
    rw [← ha', ← hb']
    have : -P * (2 * a * P * Q + b * (P * S + Q * R) + 2 * c * R * S) + 2 * Q * (a * P * P + b * P * R + c * R * R) = (-b * P - 2 * c * R) * (P * S - Q * R) := by grind
    rw [this, hm', Int.mul_one]
  have r2 : -R * b' + 2 * S * a' = 2 * a * P + b * R := by
    rw [← ha', ← hb']
    have : -R * (2 * a * P * Q + b * (P * S + Q * R) + 2 * c * R * S) + 2 * S * (a * P * P + b * P * R + c * R * R) = (2 * a * P + b * R) * (P * S - Q * R) := by grind
    rw [this, hm', Int.mul_one]
  have r3 : -2 * P * c' + Q * b' = -b * Q - 2 * c * S := by
    rw [← hc', ← hb']
    have : -2 * P * (a * Q * Q + b * Q * S + c * S * S) + Q * (2 * a * P * Q + b * (P * S + Q * R) + 2 * c * R * S) = (-b * Q - 2 * c * S) * (P * S - Q * R) := by grind
    rw [this, hm', Int.mul_one]
  have r4 : -2 * R * c' + S * b' = 2 * a * Q + b * S := by
    rw [← hc', ← hb']
    have : -2 * R * (a * Q * Q + b * Q * S + c * S * S) + S * (2 * a * P * Q + b * (P * S + Q * R) + 2 * c * R * S) = (2 * a * Q + b * S) * (P * S - Q * R) := by grind
    rw [this, hm', Int.mul_one]
  have two : ∀ x y : Int, 2 * x = 2 * y → x = y := fun x y h => by omega
  refine mx_ext ?_ ?_ ?_ ?_
  · show (t - b * u) / 2 * P + -c * u * R = P * ((t - b' * u) / 2) + Q * (a' * u)
    rw [h1, k1]
    refine two _ _ ?_
    have : 2 * (p * P + -c * u * R) = (t - b * u) * P - 2 * c * u * R := by rw [h3]; grind
    rw [this]
    have : 2 * (P * p' + Q * (a' * u)) = P * (t - b' * u) + 2 * Q * a' * u := by rw [k3]; grind
    rw [this]
    have : P * (t - b' * u) + 2 * Q * a' * u = P * t + u * (-P * b' + 2 * Q * a') := by grind
    rw [this, r1]
    grind
  · show (t - b * u) / 2 * Q + -c * u * S = P * (-c' * u) + Q * ((t + b' * u) / 2)
    rw [h1, k2]
    refine two _ _ ?_
    have : 2 * (p * Q + -c * u * S) = (t - b * u) * Q - 2 * c * u * S := by rw [h3]; grind
    rw [this]
    have : 2 * (P * (-c' * u) + Q * s') = Q * (t + b' * u) - 2 * P * c' * u := by rw [k4]; grind
    rw [this]
    have : Q * (t + b' * u) - 2 * P * c' * u = Q * t + u * (-2 * P * c' + Q * b') := by grind
    rw [this, r3]
    grind
  · show a * u * P + (t + b * u) / 2 * R = R * ((t - b' * u) / 2) + S * (a' * u)
    rw [h2, k1]
    refine two _ _ ?_
    have : 2 * (a * u * P + s * R) = (t + b * u) * R + 2 * a * u * P := by rw [h4]; grind
    rw [this]
    have : 2 * (R * p' + S * (a' * u)) = R * (t - b' * u) + 2 * S * a' * u := by rw [k3]; grind
    rw [this]
    have : R * (t - b' * u) + 2 * S * a' * u = R * t + u * (-R * b' + 2 * S * a') := by grind
    rw [this, r2]
    grind
  · show a * u * Q + (t + b * u) / 2 * S = R * (-c' * u) + S * ((t + b' * u) / 2)
    rw [h2, k2]
    refine two _ _ ?_
    have : 2 * (a * u * Q + s * S) = (t + b * u) * S + 2 * a * u * Q := by rw [h4]; grind
    rw [this]
    have : 2 * (R * (-c' * u) + S * s') = S * (t + b' * u) - 2 * R * c' * u := by rw [k4]; grind
    rw [this]
    have : S * (t + b' * u) - 2 * R * c' * u = S * t + u * (-2 * R * c' + S * b') := by grind
    rw [this, r4]
    grind
section
/-- the ring's automorph is the least one -/
theorem ring_min {d w : Int} (hn : nsq d) (hd0 : 0 < d) (hw : isWd d w) {g : Fm} (hD : dF g = d) (hr : Red g) (ha : 0 < g.1) {N : Nat} (hN : isRn d w g N) {T S : Int} (hT : 0 < T) (hS : 0 < S) (h : T * T - d * (S * S) = 4) : ((itM d w N g I2).2.2.1.natAbs : Int) ≤ g.1 * S := by
  have hdet := auM_det (f := g) hD h
  have hac := auM_ac (f := g) hD h
  obtain ⟨a, b, c⟩ := g
  obtain ⟨p, s, h1, h2, h3, h4, h5, h6, h7⟩ := half_unit (a := a) (b := b) (c := c) hD h
  have hc : c < 0 := by
    rcases red_sign hr with z | z
    · exact z.2
    · have : a < 0 := z.1
      have : 0 < a := ha
      omega
  have ha' : 0 < a := ha
  have hb : 0 < b := hr.2.1
  have em : auM (a, b, c) T S = (p, -c * S, a * S, s) := by
    show ((T - b * S) / 2, -c * S, a * S, (T + b * S) / 2) = _
    rw [h1, h2]
  rw [em] at hdet hac
  have hbS : 0 < b * S := Int.mul_pos hb hS
  have hs : 0 < s := by omega
  have hps : 0 < p * s := by
    rw [h7]
    have : 0 ≤ (-c) * a * (S * S) := Int.mul_nonneg (Int.mul_nonneg (by omega) (by omega)) (sqn S)
    have e : a * c * (S * S) = -((-c) * a * (S * S)) := by grind
    omega
  have hp : 0 < p := by
    rw [Int.mul_comm] at hps
    exact pos_of_mul hs hps
  have haS : 0 < a * S := Int.mul_pos ha' hS
  obtain ⟨m, m1, e, he, m2⟩ := aut_ring hn hd0 hw hD hr ha (q := -c * S) (r := a * S) hp hs (Int.mul_nonneg (by omega) (by omega)) (by omega) hdet hac
  have e3 : a * S = e * (itM d w m (a, b, c) I2).2.2.1 := congrArg (fun x : mxI => x.2.2.1) m2
  have e4 : ((itM d w m (a, b, c) I2).2.2.1.natAbs : Int) = a * S := by
    rcases he with rfl | rfl <;> omega
  have m0 : 0 < m := by
    rcases Nat.eq_zero_or_pos m with z | z
    · subst z
      have : (itM d w 0 (a, b, c) I2).2.2.1 = 0 := rfl
      rw [this] at e4
      simp at e4
      omega
    · exact z
  have hNm : N ≤ m := by
    rcases Nat.lt_or_ge m N with z | z
    · exact (hN.2.2 m m0 z m1).elim
    · exact z
  have := (row2_up hn hd0 hw hD hr N (m - N)).1
  rw [show N + (m - N) = m by omega] at this
  show _ ≤ a * S
  omega
/-- what the ring's matrix is -/
theorem ring_aut {d w : Int} (hn : nsq d) (hd0 : 0 < d) (hw : isWd d w) {g : Fm} (hV : Vld d g) (hr : Red g) {N : Nat} (hN : isRn d w g N) : ∃ T S e : Int, 0 < T ∧ 0 < S ∧ T * T - d * (S * S) = 4 ∧ (e = 1 ∨ e = -1) ∧ itM d w N g I2 = sgM e (auM g T S) ∧ ((itM d w N g I2).2.2.1.natAbs : Int) = g.1.natAbs * S := by
  have hD := hV.1
  have hdet := itM_det (d := d) (w := w) g N
  have hac := itM_ac (w := w) hn hD N
  rw [hN.2.1] at hac
  have hsg := (itM_sg hn hd0 hw hD hr N).2
  rw [hN.2.1] at hsg
  have hr1 := row2_up hn hd0 hw hD hr 1 (N - 1)
  rw [show 1 + (N - 1) = N by have := hN.1; omega] at hr1
  have e1 : (itM d w 1 g I2).2.2.1.natAbs = 1 := rfl
  rw [e1] at hr1
  have ha0 := nsq_1 hn hD
  have hac0 := hr.1
  generalize itM d w N g I2 = m at *
  obtain ⟨p, q, r, s⟩ := m
  obtain ⟨a, b, c⟩ := g
  simp only at hr1 hsg ha0 hac0
  have hdet' : p * s - q * r = 1 := hdet
  obtain ⟨S, r1, r2, r3⟩ := aut_form ha0 hV.2.1 hdet' hac
  have hpell := aut_pell hdet' r1 r2 r3
  have hD' : b * b - 4 * a * c = d := hD
  rw [hD'] at hpell
  have hS : S ≠ 0 := fun z => by
    rw [z, Int.mul_zero] at r1
    rw [r1] at hr1
    have := hr1.1
    simp at this
  have hps : 0 < p * s := by
    have e : q * r = -(a * c * (S * S)) := by rw [r1, r2]; grind
    have e2 : 0 ≤ -(a * c) * (S * S) := Int.mul_nonneg (by omega) (sqn S)
    have e3 : -(a * c) * (S * S) = -(a * c * (S * S)) := by grind
    omega
  -- S s ≥ 0
  have hSs : 0 ≤ S * s := by
    have e : c * (r * s) = a * c * (S * s) := by rw [r1]; grind
    rw [e] at hsg
    rcases Int.lt_or_le (S * s) 0 with z | z
    · have := Int.mul_pos_of_neg_of_neg hac0 z
      omega
    · exact z
  rcases Int.lt_trichotomy s 0 with z | z | z
  · have hp : p < 0 := by
      rcases Int.lt_or_le p 0 with y | y
      · exact y
      · have := Int.mul_nonpos_of_nonneg_of_nonpos y (Int.le_of_lt z)
        omega
    have hS2 : S < 0 := by
      rcases Int.lt_or_le S 0 with y | y
      · exact y
      · have := Int.mul_neg_of_pos_of_neg (show 0 < S by omega) z
        omega
    refine ⟨-(p + s), -S, -1, by omega, by omega, ?_, Or.inr rfl, ?_, ?_⟩
    · have : -(p + s) * -(p + s) - d * (-S * -S) = (p + s) * (p + s) - d * (S * S) := by grind
      rw [this]
      exact hpell
    · have h5 : -(p + s) - b * -S = 2 * (-p) := by
        have : b * -S = -(b * S) := by grind
        omega
      have h6 : -(p + s) + b * -S = 2 * (-s) := by
        have : b * -S = -(b * S) := by grind
        omega
      refine mx_ext ?_ ?_ ?_ ?_
      · show p = -1 * ((-(p + s) - b * -S) / 2)
        rw [h5]
        omega
      · show q = -1 * (-c * -S)
        rw [r2]
        grind
      · show r = -1 * (a * -S)
        rw [r1]
        grind
      · show s = -1 * ((-(p + s) + b * -S) / 2)
        rw [h6]
        omega
    · show (r.natAbs : Int) = (a.natAbs : Int) * -S
      rw [r1, Int.natAbs_mul, Int.natCast_mul]
      congr 1
      omega
  · rw [z, Int.mul_zero] at hps
    omega
  · have hp : 0 < p := by
      rcases Int.lt_or_le 0 p with y | y
      · exact y
      · have := Int.mul_nonpos_of_nonpos_of_nonneg y (Int.le_of_lt z)
        omega
    have hS2 : 0 < S := by
      rcases Int.lt_or_le 0 S with y | y
      · exact y
      · have := Int.mul_neg_of_neg_of_pos (show S < 0 by omega) z
        omega
    refine ⟨p + s, S, 1, by omega, hS2, hpell, Or.inl rfl, ?_, ?_⟩
    · have h5 : (p + s) - b * S = 2 * p := by omega
      have h6 : (p + s) + b * S = 2 * s := by omega
      refine mx_ext ?_ ?_ ?_ ?_
      · show p = 1 * (((p + s) - b * S) / 2)
        rw [h5]
        omega
      · show q = 1 * (-c * S)
        rw [r2]
        grind
      · show r = 1 * (a * S)
        rw [r1]
        grind
      · show s = 1 * (((p + s) + b * S) / 2)
        rw [h6]
        omega
    · show (r.natAbs : Int) = (a.natAbs : Int) * S
      rw [r1, Int.natAbs_mul, Int.natCast_mul]
      congr 1
      omega
theorem rn_ex {d w : Int} (hn : nsq d) (hd0 : 0 < d) (hw : isWd d w) {g : Fm} (hD : dF g = d) (hr : Red g) : ∃ N, isRn d w g N := by
  obtain ⟨N, N1, N2⟩ := ring_closes hn hd0 hw hD hr
  obtain ⟨M, m1, ⟨m2, m3⟩, m4⟩ := least_of (P := fun N => 0 < N ∧ itF d w N g = g) N ⟨N1, N2⟩
  exact ⟨M, m2, m3, fun i i1 i2 z => m4 i i2 ⟨i1, z⟩⟩
/-- the next form's ring -/
theorem rn_nx {d w : Int} (hn : nsq d) (hd0 : 0 < d) (hw : isWd d w) {g : Fm} (hD : dF g = d) (hr : Red g) {N : Nat} (hN : isRn d w g N) : isRn d w (nx d w g) N := by
  refine ⟨hN.1, ?_, fun i i1 i2 z => ?_⟩
  · show itF d w (N + 1) g = nx d w g
    rw [itF_succ, hN.2.1]
  · have z' : itF d w (i + 1) g = nx d w g := z
    rw [itF_succ] at z'
    obtain ⟨D, R⟩ := itF_red hn hd0 hw i g hD hr
    exact hN.2.2 i i1 i2 (nx_inj hn hd0 hw D hD R hr z')
theorem tr_nx {d w : Int} (hn : nsq d) (hd0 : 0 < d) (hw : isWd d w) {g : Fm} {N : Nat} (hN : isRn d w g N) : (itM d w N (nx d w g) I2).1 + (itM d w N (nx d w g) I2).2.2.2 = (itM d w N g I2).1 + (itM d w N g I2).2.2.2 := by
  have e1 : itM d w (N + 1) g I2 = mm (sM (nkE d w g.2.1 g.2.2)) (itM d w N (nx d w g) I2) := by
    show itM d w N (nx d w g) (stM _ I2) = _
    rw [itM_mm, stM_mm, one_mm]
  have e2 : itM d w (N + 1) g I2 = mm (itM d w N g I2) (sM (nkE d w g.2.1 g.2.2)) := by
    rw [itM_suc, stM_mm]
    unfold tnF
    rw [hN.2.1]
  rw [e1] at e2
  generalize itM d w N (nx d w g) I2 = m at *
  generalize itM d w N g I2 = m' at *
  generalize nkE d w g.2.1 g.2.2 = k at *
  obtain ⟨p, q, r, s⟩ := m
  obtain ⟨p', q', r', s'⟩ := m'
  simp only [mm, sM, Prod.mk.injEq] at e2
  obtain ⟨a1, a2, a3, a4⟩ := e2
  show p + s = p' + s'
  grind
theorem sq_inj {d w : Int} (hn : nsq d) (hd0 : 0 < d) (hw : isWd d w) {x y : Int} (hx : 0 < x) (hy : 0 < y) (h : x * x = y * y) : x = y := by
  have := le_of_sq (x := x) (y := y) (by omega) (by omega)
  have := le_of_sq (x := y) (y := x) (by omega) (by omega)
  omega
/-- there is a least unit, and every ring gives it -/
theorem ring_unit {d w : Int} (hn : nsq d) (hd0 : 0 < d) (hw : isWd d w) {t u : Int} (hu : isPu d t u) {g : Fm} (hV : Vld d g) (hr : Red g) {N : Nat} (hN : isRn d w g N) : ∃ e : Int, (e = 1 ∨ e = -1) ∧ itM d w N g I2 = sgM e (auM g t u) := by
  have pos : ∀ g : Fm, Vld d g → Red g → 0 < g.1 → isRn d w g N → ∃ e : Int, (e = 1 ∨ e = -1) ∧ itM d w N g I2 = sgM e (auM g t u) := by
    intro g hV hr ha hN
    obtain ⟨T, S, e, hT, hS, hp, he, hm, hrr⟩ := ring_aut hn hd0 hw hV hr hN
    have h1 := ring_min hn hd0 hw hV.1 hr ha hN hu.1 hu.2.1 hu.2.2.1
    rw [hrr] at h1
    have e1 : (g.1.natAbs : Int) = g.1 := by omega
    rw [e1] at h1
    have h2 : S ≤ u := Int.le_of_mul_le_mul_left h1 ha
    have h3 := hu.2.2.2 T S hT hS hp
    have h4 : S = u := by omega
    subst h4
    have h5 : T = t := sq_inj hn hd0 hw hT hu.1 (by have := hu.2.2.1; omega)
    subst h5
    exact ⟨e, he, hm⟩
  rcases Int.lt_or_le 0 g.1 with ha | ha
  · exact pos g hV hr ha hN
  · have hD := hV.1
    have hsn : g.1 < 0 ∧ 0 < g.2.2 := by
      rcases red_sign hr with z | z
      · omega
      · exact z
    obtain ⟨e, he, hm⟩ := pos (nx d w g) (nx_vld hn hV) (nx_red hn hd0 hw hD hr) hsn.2 (rn_nx hn hd0 hw hD hr hN)
    obtain ⟨T, S, e', hT, hS, hp, he', hm', hrr⟩ := ring_aut hn hd0 hw hV hr hN
    have htr := tr_nx hn hd0 hw hN
    have trau : ∀ (f : Fm) (T S : Int), dF f = d → T * T - d * (S * S) = 4 → (auM f T S).1 + (auM f T S).2.2.2 = T := by
      intro f T S hf hTS
      obtain ⟨p, s, h1, h2, h3, h4, h5, h6, h7⟩ := half_unit (a := f.1) (b := f.2.1) (c := f.2.2) hf hTS
      show (T - f.2.1 * S) / 2 + (T + f.2.1 * S) / 2 = T
      rw [h1, h2]
      exact h6
    rw [hm, hm'] at htr
    have t1 := trau (nx d w g) t u (nx_d hD (nsq_3 hn hD)) hu.2.2.1
    have t2 := trau g T S hD hp
    have htr' : e * (auM (nx d w g) t u).1 + e * (auM (nx d w g) t u).2.2.2 = e' * (auM g T S).1 + e' * (auM g T S).2.2.2 := htr
    rw [← Int.mul_add, ← Int.mul_add, t1, t2] at htr'
    have hTt : T = t := by
      have := hu.1
      rcases he with rfl | rfl <;> rcases he' with rfl | rfl <;> omega
    subst hTt
    have hSu : S = u := sq_inj hn hd0 hw hS hu.2.1 (by
      have h1 := hu.2.2.1
      have : d * (S * S) = d * (u * u) := by omega
      exact Int.eq_of_mul_eq_mul_left (by omega) this)
    subst hSu
    exact ⟨e', he', hm'⟩
theorem pu_ring {d w : Int} (hn : nsq d) (hd0 : 0 < d) (hw : isWd d w) {g : Fm} (hV : Vld d g) (hr : Red g) (ha : 0 < g.1) {N : Nat} (hN : isRn d w g N) {T S e : Int} (hT : 0 < T) (hS : 0 < S) (hp : T * T - d * (S * S) = 4) (he : e = 1 ∨ e = -1) (hm : itM d w N g I2 = sgM e (auM g T S)) : isPu d T S := by
  refine ⟨hT, hS, hp, fun T' S' hT' hS' hp' => ?_⟩
  have h1 := ring_min hn hd0 hw hV.1 hr ha hN hT' hS' hp'
  have h2 : (itM d w N g I2).2.2.1 = e * (g.1 * S) := congrArg (fun x : mxI => x.2.2.1) hm
  have h3 := Int.mul_pos ha hS
  have h4 : ((itM d w N g I2).2.2.1.natAbs : Int) = g.1 * S := by
    rcases he with rfl | rfl <;> omega
  rw [h4] at h1
  exact Int.le_of_mul_le_mul_left h1 ha
end
