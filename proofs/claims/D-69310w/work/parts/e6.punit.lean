/-! the unit out of the principal ring, by both ways -/
section
theorem last_k {d w : Int} (hn : nsq d) (hdd : isDd d) (hd0 : 0 < d) (hw : isWd d w) {m : Nat} (m0 : 0 < m) (h1 : (itF d w m (frF d w)).1.natAbs = 1) : ((tnF d w (frF d w) (m - 1)).natAbs : Int) = uF d w := by
  obtain ⟨k, rfl⟩ : ∃ k, m = k + 1 := ⟨m - 1, by omega⟩
  have hD := frF_d hn hdd hd0 hw
  have hR := frF_red hn hdd hd0 hw
  obtain ⟨D1, R1⟩ := itF_red hn hd0 hw (k + 1) _ hD hR
  obtain ⟨D0, R0⟩ := itF_red hn hd0 hw k _ hD hR
  have b1 := one_mid hn hdd hd0 hw D1 R1 (Or.inl h1)
  rw [itF_succ] at b1 h1
  have c0 : (itF d w k (frF d w)).2.2.natAbs = 1 := h1
  have b0 := one_mid hn hdd hd0 hw D0 R0 (Or.inr c0)
  have hk := nk_eq (d := d) (w := w) (b := (itF d w k (frF d w)).2.1) (nsq_3 hn D0)
  have b1' : nbE d w (itF d w k (frF d w)).2.1 (itF d w k (frF d w)).2.2 = uF d w := b1
  rw [b1', b0] at hk
  have hu := (uF_facts hn hdd hd0 hw).1
  show ((nkE d w (itF d w k (frF d w)).2.1 (itF d w k (frF d w)).2.2).natAbs : Int) = uF d w
  rw [b0]
  generalize nkE d w (uF d w) (itF d w k (frF d w)).2.2 = x at *
  generalize (itF d w k (frF d w)).2.2 = c at *
  have : c = 1 ∨ c = -1 := by omega
  rcases this with rfl | rfl <;> omega
theorem last_row {d w : Int} (hn : nsq d) (hdd : isDd d) (hd0 : 0 < d) (hw : isWd d w) {m : Nat} (m0 : 0 < m) (h1 : (itF d w m (frF d w)).1.natAbs = 1) : ((itM d w m (frF d w) I2).2.2.2.natAbs : Int) = uF d w * (itM d w (m - 1) (frF d w) I2).2.2.2.natAbs + (itM d w (m - 1) (frF d w) I2).2.2.1.natAbs ∧ (itM d w m (frF d w) I2).2.2.1.natAbs = (itM d w (m - 1) (frF d w) I2).2.2.2.natAbs := by
  have hk := last_k hn hdd hd0 hw m0 h1
  obtain ⟨k, rfl⟩ : ∃ k, m = k + 1 := ⟨m - 1, by omega⟩
  obtain ⟨-, a1, a2⟩ := itM_abs hn hd0 hw (frF_d hn hdd hd0 hw) (frF_red hn hdd hd0 hw) k
  rw [show k + 1 - 1 = k by omega] at hk ⊢
  refine ⟨?_, a1⟩
  rw [a2, Int.natCast_add, Int.natCast_mul, hk]
/-- what the two ways find -/
def unP (d w : Int) (N m : Nat) (t u x6 x7 : Int) : Prop := isRn d w (frF d w) N ∧ (0 < m ∧ (itF d w m (frF d w)).1.natAbs = 1 ∧ (∀ i, 0 < i → i < m → (itF d w i (frF d w)).1.natAbs ≠ 1)) ∧ isPu d t u ∧ (∃ e : Int, (e = 1 ∨ e = -1) ∧ itM d w N (frF d w) I2 = sgM e (auM (frF d w) t u)) ∧
  ((m % 2 = 0 ∧ N = m ∧ x6 = 0 ∧ x7 = 0 ∧ t = 2 * ((itM d w (m - 1) (frF d w) I2).2.2.1.natAbs : Int) + uF d w * (itM d w (m - 1) (frF d w) I2).2.2.2.natAbs ∧ u = (itM d w (m - 1) (frF d w) I2).2.2.2.natAbs ∧ (∀ i, 0 < i → i ≤ N → (itF d w i (frF d w)).1 ≠ -1)) ∨
   (m % 2 = 1 ∧ N = 2 * m ∧ (itF d w m (frF d w)).1 = -1 ∧ 0 < x6 ∧ 0 < x7 ∧ x6 = ((itM d w m (frF d w) I2).1 * 2 + (itM d w m (frF d w) I2).2.2.1 * uF d w).natAbs ∧ x7 = (itM d w m (frF d w) I2).2.2.1.natAbs ∧ x6 = 2 * ((itM d w (m - 1) (frF d w) I2).2.2.1.natAbs : Int) + uF d w * (itM d w (m - 1) (frF d w) I2).2.2.2.natAbs ∧ x7 = (itM d w (m - 1) (frF d w) I2).2.2.2.natAbs ∧ t = x6 * x6 + 2 ∧ u = x6 * x7 ∧ x6 * x6 - d * (x7 * x7) = -4))
theorem unit_ex {d w : Int} (hn : nsq d) (hdd : isDd d) (hd0 : 0 < d) (hw : isWd d w) : ∃ (N m : Nat) (t u x6 x7 : Int), unP d w N m t u x6 x7 := by
  have hD := frF_d hn hdd hd0 hw
  have hR := frF_red hn hdd hd0 hw
  have hV := frF_vld hn hdd hd0 hw
  obtain ⟨m, m0, m1, m2⟩ := nu_ex hn hdd hd0 hw
  obtain ⟨l1, l2⟩ := last_row hn hdd hd0 hw m0 m1
  obtain ⟨Dm, Rm⟩ := itF_red hn hd0 hw m _ hD hR
  obtain ⟨s1, s2⟩ := sgn_alt hn hdd hd0 hw m
  have a0 : 0 < (frF d w).1 := by show (0 : Int) < 1; decide
  rcases Nat.mod_two_eq_zero_or_one m with hm | hm
  · have am : (itF d w m (frF d w)).1 = 1 := by have := s1 hm; omega
    have fm := (one_form hn hdd hd0 hw Dm Rm).1 am
    have hN : isRn d w (frF d w) m := ⟨m0, fm, fun i i1 i2 z => m2 i i1 i2 (by rw [z]; rfl)⟩
    obtain ⟨T, S, e, hT, hS, hp, he, hmm, hrr⟩ := ring_aut hn hd0 hw hV hR hN
    refine ⟨m, m, T, S, 0, 0, hN, ⟨m0, m1, m2⟩, pu_ring hn hd0 hw hV hR a0 hN hT hS hp he hmm, ⟨e, he, hmm⟩, Or.inl ⟨hm, rfl, rfl, rfl, ?_, ?_, ?_⟩⟩
    · obtain ⟨p, s, h1, h2, h3, h4, h5, h6, h7⟩ := half_unit (a := (frF d w).1) (b := (frF d w).2.1) (c := (frF d w).2.2) hD hp
      have e1 : (itM d w m (frF d w) I2).2.2.2 = e * s := by rw [hmm, ← h2]; rfl
      have e2 : (frF d w).2.1 = uF d w := rfl
      have a1 : ((frF d w).1.natAbs : Int) = 1 := by rw [frF_eq hn hdd hd0 hw]; rfl
      rw [e2] at h3 h4
      rw [a1, Int.one_mul] at hrr
      have hbS : 0 < uF d w * S := Int.mul_pos (uF_facts hn hdd hd0 hw).1 hS
      have hs : 0 < s := by omega
      have e3 : ((itM d w m (frF d w) I2).2.2.2.natAbs : Int) = s := by
        rw [e1]
        rcases he with rfl | rfl <;> omega
      rw [e3] at l1
      rw [l2] at hrr
      rw [hrr] at l1 ⊢
      omega
    · have a1 : ((frF d w).1.natAbs : Int) = 1 := by rw [frF_eq hn hdd hd0 hw]; rfl
      rw [a1, Int.one_mul, l2] at hrr
      exact hrr.symm
    · intro i i1 i2 z
      rcases Nat.lt_or_ge i m with y | y
      · exact m2 i i1 y (by rw [z]; rfl)
      · have : i = m := by omega
        subst this
        omega
  · have am : (itF d w m (frF d w)).1 = -1 := by have := s2 hm; omega
    have fm := (one_form hn hdd hd0 hw Dm Rm).2 am
    have fin : itF d w (2 * m) (frF d w) = frF d w := by
      rw [show 2 * m = m + m by omega, itF_add, fm, itF_neg, fm, ng_ng]
    have hN : isRn d w (frF d w) (2 * m) := by
      refine ⟨by omega, fin, fun i i1 i2 z => ?_⟩
      rcases Nat.lt_trichotomy i m with y | y | y
      · exact m2 i i1 y (by rw [z]; rfl)
      · subst y
        rw [z] at am
        have am' : (1 : Int) = -1 := am
        omega
      · have e : itF d w i (frF d w) = ngF (itF d w (i - m) (frF d w)) := by
          have e1 : i = m + (i - m) := by omega
          rw [e1, itF_add, fm, itF_neg, ← e1]
        rw [e] at z
        refine m2 (i - m) (by omega) (by omega) ?_
        have : -(itF d w (i - m) (frF d w)).1 = 1 := congrArg (fun f : Fm => f.1) z
        omega
    obtain ⟨T, S, e, hT, hS, hp, he, hmm, hrr⟩ := ring_aut hn hd0 hw hV hR hN
    obtain ⟨e', he', hng⟩ := itM_neg d w (frF d w) m
    have h2m : itM d w (2 * m) (frF d w) I2 = mm (itM d w m (frF d w) I2) (sgM e' (ngM (itM d w m (frF d w) I2))) := by
      rw [show 2 * m = m + m by omega, itM_add, itM_mm, fm, hng]
    have hdet := itM_det (d := d) (w := w) (frF d w) m
    have hac := itM_ac (w := w) hn hD m
    rw [fm] at hac
    have hsg := (itM_sg hn hd0 hw hD hR m).2
    rw [fm] at hsg
    have hr1 := row2_up hn hd0 hw hD hR 1 (m - 1)
    rw [show 1 + (m - 1) = m by omega] at hr1
    have e1 : (itM d w 1 (frF d w) I2).2.2.1.natAbs = 1 := rfl
    rw [e1] at hr1
    have htr : (itM d w (2 * m) (frF d w) I2).1 + (itM d w (2 * m) (frF d w) I2).2.2.2 = e * T := by
      obtain ⟨p, s, h1, h2, h3, h4, h5, h6, h7⟩ := half_unit (a := (frF d w).1) (b := (frF d w).2.1) (c := (frF d w).2.2) hD hp
      rw [hmm]
      show e * ((T - (frF d w).2.1 * S) / 2) + e * ((T + (frF d w).2.1 * S) / 2) = e * T
      rw [h1, h2, ← Int.mul_add, h6]
    have a1 : ((frF d w).1.natAbs : Int) = 1 := by rw [frF_eq hn hdd hd0 hw]; rfl
    rw [a1, Int.one_mul, h2m] at hrr
    rw [h2m] at htr
    have hpu := pu_ring hn hd0 hw hV hR a0 hN hT hS hp he hmm
    have hC : (frF d w).2.2 < 0 := by
      rcases red_sign hR with z | z
      · exact z.2
      · omega
    have hD' : uF d w * uF d w - 4 * 1 * (frF d w).2.2 = d := hD
    have hac' : acF (1, uF d w, (frF d w).2.2) (itM d w m (frF d w) I2).1 (itM d w m (frF d w) I2).2.1 (itM d w m (frF d w) I2).2.2.1 (itM d w m (frF d w) I2).2.2.2 = (-1, uF d w, -(frF d w).2.2) := hac
    have hsg' : -(frF d w).2.2 * ((itM d w m (frF d w) I2).2.2.1 * (itM d w m (frF d w) I2).2.2.2) ≤ 0 := hsg
    have hB := (uF_facts hn hdd hd0 hw).1
    obtain ⟨M, hM⟩ : ∃ M, itM d w m (frF d w) I2 = M := ⟨_, rfl⟩
    rw [hM] at l1 l2 hrr htr hdet hac' hsg' hr1
    have hM1 := hM
    obtain ⟨p, q, r, s⟩ := M
    simp only at l1 l2 hac' hsg' hr1
    have hdet' : p * s - q * r = 1 := hdet
    generalize (frF d w).2.2 = C at hC hD' hac' hsg'
    have k1 : 1 * p * p + uF d w * p * r + C * r * r = -1 := congrArg (fun f : Fm => f.1) hac'
    have k2 : 2 * 1 * p * q + uF d w * (p * s + q * r) + 2 * C * r * s = uF d w := congrArg (fun f : Fm => f.2.1) hac'
    have k3 : p + s = -(uF d w * r) := by
      have e1 : (2 * 1 * p + uF d w * r) * (p * s - q * r) = 2 * s * (1 * p * p + uF d w * p * r + C * r * r) - r * (2 * 1 * p * q + uF d w * (p * s + q * r) + 2 * C * r * s) := by grind
      rw [hdet', k1, k2] at e1
      grind
    have k4 : p * 2 + r * uF d w = p - s := by
      have : r * uF d w = uF d w * r := Int.mul_comm _ _
      omega
    have r0 : r ≠ 0 := fun z => by
      rw [z] at hr1
      have := hr1.1
      simp at this
    have hrs : r * s ≤ 0 := by
      rcases Int.lt_or_le 0 (r * s) with z | z
      · have := Int.mul_pos (show 0 < -C by omega) z
        omega
      · exact z
    -- x6 by sizes
    have k5 : ((p - s).natAbs : Int) = 2 * ((itM d w (m - 1) (frF d w) I2).2.2.1.natAbs : Int) + uF d w * (itM d w (m - 1) (frF d w) I2).2.2.2.natAbs := by
      have e1 : p - s = -(2 * s + uF d w * r) := by omega
      rw [e1, Int.natAbs_neg]
      have l2' : (r.natAbs : Int) = ((itM d w (m - 1) (frF d w) I2).2.2.2.natAbs : Int) := by omega
      rw [← l2'] at l1 ⊢
      generalize ((itM d w (m - 1) (frF d w) I2).2.2.1.natAbs) = R at l1 ⊢
      have nn : 0 ≤ uF d w * (r.natAbs : Int) := Int.mul_nonneg (by omega) (by omega)
      rcases Int.lt_or_le r 0 with z | z
      · have s0 : 0 ≤ s := by
          rcases Int.lt_or_le s 0 with y | y
          · have := Int.mul_pos_of_neg_of_neg z y
            omega
          · exact y
        have e2 : uF d w * (r.natAbs : Int) = -(uF d w * r) := by
          have : (r.natAbs : Int) = -r := by omega
          rw [this]
          grind
        rw [e2] at l1 nn ⊢
        generalize uF d w * r = y at *
        omega
      · have s0 : s ≤ 0 := by
          rcases Int.lt_or_le 0 s with y | y
          · have := Int.mul_pos (show 0 < r by omega) y
            omega
          · exact y
        have e2 : uF d w * (r.natAbs : Int) = uF d w * r := by
          have : (r.natAbs : Int) = r := by omega
          rw [this]
        rw [e2] at l1 nn ⊢
        generalize uF d w * r = y at *
        omega
    have k6 : (p - s) * (p - s) - d * (r * r) = -4 := by
      have : (p - s) * (p - s) = (p + s) * (p + s) - 4 * (p * s) := by grind
      rw [this, k3, ← hD']
      have e1 : p * s = -(p * p) - uF d w * r * p := by
        have : s = -(uF d w * r) - p := by omega
        rw [this]
        grind
      rw [e1]
      grind
    have e6 : ((p - s).natAbs : Int) * ((p - s).natAbs : Int) = (p - s) * (p - s) := abs_sq _
    have e7 : (r.natAbs : Int) * (r.natAbs : Int) = r * r := abs_sq _
    have hps0 : p - s ≠ 0 := fun z => by
      rw [z] at k6
      have h5 := (d5 hn hdd hd0 hw).1
      have e1 : 1 ≤ r * r := by
        have := sqn r
        have : r * r ≠ 0 := fun z => by
          rcases Int.mul_eq_zero.1 z with z | z <;> exact r0 z
        omega
      have e2 : 5 * 1 ≤ d * (r * r) := Int.mul_le_mul h5 e1 (by decide) (by omega)
      omega
    refine ⟨2 * m, m, T, S, (p - s).natAbs, r.natAbs, hN, ⟨m0, m1, m2⟩, hpu, ⟨e, he, hmm⟩, Or.inr ⟨hm, rfl, am, by omega, by omega, ?_, ?_, k5, ?_, ?_, ?_, ?_⟩⟩
    · rw [hM1]
      show ((p - s).natAbs : Int) = ((p * 2 + r * uF d w).natAbs : Int)
      rw [k4]
    · rw [hM1]
    · omega
    · have e8 : e' * (p * p + q * -r) + e' * (r * -q + s * s) = e * T := by
        have := htr
        simp only [mm, sgM, ngM] at this
        rw [← this]
        grind
      have e9 : e' * (p * p + q * -r) + e' * (r * -q + s * s) = e' * ((p - s) * (p - s) + 2) := by
        have : (p - s) * (p - s) + 2 = p * p + s * s - 2 * (p * s - q * r) - 2 * (q * r) + 2 := by grind
        rw [this, hdet']
        grind
      rw [e9] at e8
      rw [e6]
      have := sqn (p - s)
      generalize (p - s) * (p - s) = Q at *
      rcases he with rfl | rfl <;> rcases he' with rfl | rfl <;> omega
    · have e8 : (mm (p, q, r, s) (sgM e' (ngM (p, q, r, s)))).2.2.1 = e' * (r * (p - s)) := by
        simp only [mm, sgM, ngM]
        grind
      rw [e8] at hrr
      rw [← hrr, Int.natAbs_mul, Int.natAbs_mul, Int.natCast_mul, Int.natCast_mul]
      have : (e'.natAbs : Int) = 1 := by rcases he' with rfl | rfl <;> rfl
      rw [this, Int.one_mul, Int.mul_comm]
    · rw [e6, e7]
      exact k6
end
