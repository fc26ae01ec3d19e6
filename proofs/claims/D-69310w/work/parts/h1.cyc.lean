/-! below 0: orbits of two or three, and their best -/
section
variable {va vb vc vd : Int}
/-- three in a ring: the search stops at the best -/
theorem stop3 {a b c : xI} (f1 : stQ va vb vc vd a = b) (f2 : stQ va vb vc vd b = c) (f3 : stQ va vb vc vd c = a) (b1 : stQ vd (-vb) (-vc) va a = c) (b2 : stQ vd (-vb) (-vc) va c = b) (b3 : stQ vd (-vb) (-vc) va b = a) (hb : ∀ z, z = a ∨ z = b ∨ z = c → bdQ va vb vc vd z ∧ bdQ vd (-vb) (-vc) va z) : ∃ n n' z, mvT va vb vc vd n a ∧ mvT vd (-vb) (-vc) va n' (itQ va vb vc vd n a) ∧ z = itQ vd (-vb) (-vc) va n' (itQ va vb vc vd n a) ∧ (z = a ∨ z = b ∨ z = c) ∧ ¬ btZ a z ∧ ¬ btZ b z ∧ ¬ btZ c z := by
  have ba := hb a (Or.inl rfl)
  have bb := hb b (Or.inr (Or.inl rfl))
  have bc := hb c (Or.inr (Or.inr rfl))
  by_cases h1 : btZ b a
  · by_cases h2 : btZ c b
    · have h3 := bt_tr h2 h1
      refine ⟨2, 0, c, ⟨ba.1, by rw [f1, bf_bt]; exact h1, ?_⟩, ?_, ?_, Or.inr (Or.inr rfl), fun q => bt_asy q h3, fun q => bt_asy q h2, bt_irr c⟩
      · rw [f1]
        refine ⟨bb.1, by rw [f2, bf_bt]; exact h2, ?_⟩
        rw [f2]
        exact ⟨bc.1, by rw [f3, bf_bt]; exact fun q => bt_asy q h3⟩
      · show mvT _ _ _ _ 0 (stQ _ _ _ _ (stQ _ _ _ _ a))
        rw [f1, f2]
        exact ⟨bc.2, by rw [b2, bf_bt]; exact fun q => bt_asy q h2⟩
      · show c = stQ _ _ _ _ (stQ _ _ _ _ a)
        rw [f1, f2]
    · refine ⟨1, 0, b, ⟨ba.1, by rw [f1, bf_bt]; exact h1, ?_⟩, ?_, ?_, Or.inr (Or.inl rfl), fun q => bt_asy q h1, bt_irr b, h2⟩
      · rw [f1]
        exact ⟨bb.1, by rw [f2, bf_bt]; exact h2⟩
      · show mvT _ _ _ _ 0 (stQ _ _ _ _ a)
        rw [f1]
        exact ⟨bb.2, by rw [b3, bf_bt]; exact fun q => bt_asy q h1⟩
      · show b = stQ _ _ _ _ a
        rw [f1]
  · by_cases h2 : btZ c a
    · have h3 : ¬ btZ b c := fun q => h1 (bt_tr q h2)
      refine ⟨0, 1, c, ⟨ba.1, by rw [f1, bf_bt]; exact h1⟩, ?_, ?_, Or.inr (Or.inr rfl), fun q => bt_asy q h2, h3, bt_irr c⟩
      · refine ⟨ba.2, ?_, ?_⟩
        · show bfQ (stQ _ _ _ _ a) a
          rw [b1, bf_bt]
          exact h2
        · show mvT _ _ _ _ 0 (stQ _ _ _ _ a)
          rw [b1]
          exact ⟨bc.2, by rw [b2, bf_bt]; exact h3⟩
      · show c = stQ _ _ _ _ a
        rw [b1]
    · refine ⟨0, 0, a, ⟨ba.1, by rw [f1, bf_bt]; exact h1⟩, ⟨ba.2, ?_⟩, rfl, Or.inl rfl, bt_irr a, h1, h2⟩
      show ¬ bfQ (stQ _ _ _ _ a) a
      rw [b1, bf_bt]
      exact h2
theorem stop2 {a b : xI} (f1 : stQ va vb vc vd a = b) (f2 : stQ va vb vc vd b = a) (b1 : stQ vd (-vb) (-vc) va a = b) (b2 : stQ vd (-vb) (-vc) va b = a) (hb : ∀ z, z = a ∨ z = b → bdQ va vb vc vd z ∧ bdQ vd (-vb) (-vc) va z) : ∃ n n' z, mvT va vb vc vd n a ∧ mvT vd (-vb) (-vc) va n' (itQ va vb vc vd n a) ∧ z = itQ vd (-vb) (-vc) va n' (itQ va vb vc vd n a) ∧ (z = a ∨ z = b) ∧ ¬ btZ a z ∧ ¬ btZ b z := by
  have ba := hb a (Or.inl rfl)
  have bb := hb b (Or.inr rfl)
  by_cases h1 : btZ b a
  · refine ⟨1, 0, b, ⟨ba.1, by rw [f1, bf_bt]; exact h1, ?_⟩, ?_, ?_, Or.inr rfl, fun q => bt_asy q h1, bt_irr b⟩
    · rw [f1]
      exact ⟨bb.1, by rw [f2, bf_bt]; exact fun q => bt_asy q h1⟩
    · show mvT _ _ _ _ 0 (stQ _ _ _ _ a)
      rw [f1]
      exact ⟨bb.2, by rw [b2, bf_bt]; exact fun q => bt_asy q h1⟩
    · show b = stQ _ _ _ _ a
      rw [f1]
  · refine ⟨0, 0, a, ⟨ba.1, by rw [f1, bf_bt]; exact h1⟩, ⟨ba.2, ?_⟩, rfl, Or.inl rfl, bt_irr a, h1⟩
    show ¬ bfQ (stQ _ _ _ _ a) a
    rw [b1, bf_bt]
    exact h1
end
/-- the unit below 0 -/
def unN (d t u : Int) : Prop := t = (if d = -3 then 1 else if d = -4 then 0 else 2) ∧ u = (if d = -3 ∨ d = -4 then 1 else 0)
theorem unN_pell {d t u : Int} (h : unN d t u) : t * t - d * (u * u) = 4 := by
  obtain ⟨h1, h2⟩ := h
  by_cases c3 : d = -3
  · rw [if_pos c3] at h1
    rw [if_pos (Or.inl c3)] at h2
    rw [h1, h2, c3]
    decide
  · rw [if_neg c3] at h1
    by_cases c4 : d = -4
    · rw [if_pos c4] at h1
      rw [if_pos (Or.inr c4)] at h2
      rw [h1, h2, c4]
      decide
    · rw [if_neg c4] at h1
      rw [if_neg (by omega)] at h2
      rw [h1, h2]
      omega
/-- powers of the automorph -/
theorem au_ch {F : Fm} {d t u : Int} (hD : dF F = d) (h : t * t - d * (u * u) = 4) (z : xI) : mv (auM F t u) (mv (auM F t u) z) = (t * (mv (auM F t u) z).1 - z.1, t * (mv (auM F t u) z).2 - z.2) := by
  have hdet := auM_det (f := F) hD h
  obtain ⟨p, s, h1, h2, h3, h4, h5, h6, h7⟩ := half_unit (a := F.1) (b := F.2.1) (c := F.2.2) hD h
  have ht : (auM F t u).1 + (auM F t u).2.2.2 = t := by
    show (t - F.2.1 * u) / 2 + (t + F.2.1 * u) / 2 = t
    rw [h1, h2]
    exact h6
  generalize auM F t u = V at *
  unfold dM at hdet
  rw [← ht]
  refine Prod.ext ?_ ?_ <;> (simp only [mv]; grind)
theorem au_d3 {F : Fm} {t u : Int} (hD : dF F = -3) (h : unN (-3) t u) (z : xI) : mv (auM F t u) (mv (auM F t u) (mv (auM F t u) z)) = (-z.1, -z.2) := by
  have hp := unN_pell h
  have ht : t = 1 := h.1
  have e := au_ch hD hp z
  have e2 := au_ch hD hp (mv (auM F t u) z)
  rw [ht] at e e2 ⊢
  rw [e2, e]
  refine Prod.ext ?_ ?_ <;> simp only <;> omega
theorem au_d4 {F : Fm} {t u : Int} (hD : dF F = -4) (h : unN (-4) t u) (z : xI) : mv (auM F t u) (mv (auM F t u) z) = (-z.1, -z.2) := by
  have hp := unN_pell h
  have ht : t = 0 := h.1
  have e := au_ch hD hp z
  rw [ht] at e ⊢
  rw [e]
  refine Prod.ext ?_ ?_ <;> simp only <;> omega
theorem au_d5 {F : Fm} {d t u : Int} (hd : d < -4) (h : unN d t u) : auM F t u = I2 := by
  have ht : t = 2 := by
    have := h.1
    rw [if_neg (by omega), if_neg (by omega)] at this
    exact this
  have hu : u = 0 := by
    have := h.2
    rw [if_neg (by omega)] at this
    exact this
  rw [ht, hu]
  unfold auM I2
  simp only [Int.mul_zero, Int.sub_zero, Int.add_zero]
  rfl
/-- the orbit of a pair, up to sign -/
def inO (F : Fm) (t u : Int) (z w : xI) : Prop := w = trn z ∨ w = trn (mv (auM F t u) z) ∨ w = trn (mv (auM F t u) (mv (auM F t u) z))
theorem inO_V {F : Fm} {d t u : Int} (hd : d < 0) (hdd : isDd d) (hD : dF F = d) (h : unN d t u) {z : xI} (hz : z ≠ (0, 0)) (w : xI) : inO F t u (mv (auM F t u) z) w ↔ inO F t u z w := by
  have hdV := auM_det (f := F) hD (unN_pell h)
  unfold isDd at hdd
  have hc : d = -3 ∨ d = -4 ∨ d < -4 := by omega
  unfold inO
  rcases hc with c | c | c
  · subst c
    rw [au_d3 hD h, trn_neg hz]
    constructor
    · rintro (q | q | q)
      · exact Or.inr (Or.inl q)
      · exact Or.inr (Or.inr q)
      · exact Or.inl q
    · rintro (q | q | q)
      · exact Or.inr (Or.inr q)
      · exact Or.inl q
      · exact Or.inr (Or.inl q)
  · subst c
    rw [au_d4 hD h, trn_neg hz, mv_neg, trn_neg (mv_ne hdV hz)]
    constructor
    · rintro (q | q | q)
      · exact Or.inr (Or.inl q)
      · exact Or.inl q
      · exact Or.inr (Or.inl q)
    · rintro (q | q | q)
      · exact Or.inr (Or.inl q)
      · exact Or.inl q
      · exact Or.inr (Or.inl q)
  · rw [au_d5 c h, mv_one, mv_one, mv_one]
theorem inO_neg {F : Fm} {d t u : Int} (hD : dF F = d) (hp : t * t - d * (u * u) = 4) {z : xI} (hz : z ≠ (0, 0)) (w : xI) : inO F t u (-z.1, -z.2) w ↔ inO F t u z w := by
  have hdV := auM_det (f := F) hD hp
  unfold inO
  have e1 := mv_ne hdV hz
  have e2 := mv_ne hdV e1
  rw [mv_neg, mv_neg, trn_neg hz, trn_neg e1, trn_neg e2]
/-- the best of an orbit -/
def bsO (F : Fm) (t u : Int) (z w : xI) : Prop := inO F t u z w ∧ ∀ v, inO F t u z v → ¬ btZ v w
theorem bsO_uniq {F : Fm} {d t u : Int} (hD : dF F = d) (hp : t * t - d * (u * u) = 4) {z : xI} (hz : z ≠ (0, 0)) {w v : xI} (h : bsO F t u z w) (h' : bsO F t u z v) : w = v := by
  have hdV := auM_det (f := F) hD hp
  have nr : ∀ w, inO F t u z w → nrm w := by
    rintro w (q | q | q) <;> rw [q]
    · exact trn_nrm hz
    · exact trn_nrm (mv_ne hdV hz)
    · exact trn_nrm (mv_ne hdV (mv_ne hdV hz))
  rcases bt_tot (nr w h.1) (nr v h'.1) with q | q | q
  · exact (h'.2 w h.1 q).elim
  · exact q
  · exact (h.2 v h'.1 q).elim
theorem au_eq {F : Fm} {d t u : Int} (hd : -5 < d ∧ d < 0) (hdd : isDd d) (hD : dF F = d) (h : unN d t u) (z : xI) : auZ d F z = mv (auM F t u) z := by
  have hp := unN_pell h
  have hpar := par_unit (a := F.1) (b := F.2.1) (c := F.2.2) hD hp
  unfold isDd at hdd
  have hc : d = -3 ∨ d = -4 := by omega
  have hu : u = 1 := by
    have := h.2
    rw [if_pos hc] at this
    exact this
  have ht : t = if d = -3 then 1 else 0 := by
    have := h.1
    rcases hc with c | c
    · rw [if_pos c] at this ⊢
      exact this
    · rw [if_neg (by omega), if_pos c] at this
      rw [if_neg (by omega)]
      exact this
  unfold auZ
  rw [← ht]
  rw [hu, Int.mul_one] at hpar
  have e1 : (t - F.2.1).tdiv 2 = (t - F.2.1 * u) / 2 := by
    rw [hu, Int.mul_one]
    exact Int.tdiv_eq_ediv_of_dvd (Int.dvd_of_emod_eq_zero hpar)
  have e2 : (t + F.2.1).tdiv 2 = (t + F.2.1 * u) / 2 := by
    rw [hu, Int.mul_one]
    exact Int.tdiv_eq_ediv_of_dvd (Int.dvd_of_emod_eq_zero (by omega))
  rw [e1, e2]
  refine Prod.ext ?_ ?_
  · show (t - F.2.1 * u) / 2 * z.1 - F.2.2 * z.2 = (t - F.2.1 * u) / 2 * z.1 + -F.2.2 * u * z.2
    rw [hu]
    grind
  · show F.1 * z.1 + (t + F.2.1 * u) / 2 * z.2 = F.1 * u * z.1 + (t + F.2.1 * u) / 2 * z.2
    rw [hu]
    grind
theorem sol_bs {F : Fm} {d t u : Int} (hd : d < 0) (hdd : isDd d) (hD : dF F = d) (h : unN d t u) (z : xI) : bsO F t u z (solZ d F z) := by
  have off : ∀ b z : xI, (offZ b z = trn z ∧ btZ (trn z) b) ∨ (offZ b z = b ∧ ¬ btZ (trn z) b) := by
    intro b z
    unfold offZ
    by_cases q : btZ (trn z) b
    · exact Or.inl ⟨if_pos q, q⟩
    · exact Or.inr ⟨if_neg q, q⟩
  unfold solZ
  by_cases c : -5 < d
  · rw [if_pos c, au_eq ⟨c, hd⟩ hdd hD h, au_eq ⟨c, hd⟩ hdd hD h]
    have key : ∀ (a : xI) (z1 z2 : xI), (offZ (offZ a z1) z2 = a ∨ offZ (offZ a z1) z2 = trn z1 ∨ offZ (offZ a z1) z2 = trn z2) ∧ ¬ btZ a (offZ (offZ a z1) z2) ∧ ¬ btZ (trn z1) (offZ (offZ a z1) z2) ∧ ¬ btZ (trn z2) (offZ (offZ a z1) z2) := by
      intro a z1 z2
      rcases off a z1 with ⟨q1, q2⟩ | ⟨q1, q2⟩ <;> rw [q1]
      · rcases off (trn z1) z2 with ⟨q3, q4⟩ | ⟨q3, q4⟩ <;> rw [q3]
        · exact ⟨Or.inr (Or.inr rfl), fun q => bt_asy q (bt_tr q4 q2), fun q => bt_asy q q4, bt_irr _⟩
        · exact ⟨Or.inr (Or.inl rfl), fun q => bt_asy q q2, bt_irr _, q4⟩
      · rcases off a z2 with ⟨q3, q4⟩ | ⟨q3, q4⟩ <;> rw [q3]
        · exact ⟨Or.inr (Or.inr rfl), fun q => bt_asy q q4, fun q => q2 (bt_tr q q4), bt_irr _⟩
        · exact ⟨Or.inl rfl, bt_irr _, q2, q4⟩
    obtain ⟨k1, k2, k3, k4⟩ := key (trn z) (mv (auM F t u) z) (mv (auM F t u) (mv (auM F t u) z))
    exact ⟨k1, by
      rintro v (q | q | q) <;> rw [q]
      · exact k2
      · exact k3
      · exact k4⟩
  · rw [if_neg c]
    have e := au_d5 (F := F) (show d < -4 by unfold isDd at hdd; omega) h
    refine ⟨Or.inl rfl, ?_⟩
    rintro v (q | q | q)
    · rw [q]
      exact bt_irr _
    · rw [q, e, mv_one]
      exact bt_irr _
    · rw [q, e, mv_one, mv_one]
      exact bt_irr _
