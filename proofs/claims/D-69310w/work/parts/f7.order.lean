/-! the order of solutions; orbits of an automorph -/
theorem bf_bt (z w : xI) : bfQ z w ↔ btZ z w := by
  unfold bfQ btZ
  constructor
  · rintro (h | ⟨h1, h2 | ⟨h3, h4⟩⟩)
    · exact Or.inl h
    · exact Or.inr ⟨h1, Or.inl h2⟩
    · refine Or.inr ⟨h1, Or.inr ⟨h3, ?_⟩⟩
      rcases Int.lt_trichotomy w.1 0 with q | q | q
      · refine ⟨q, fun q' => ?_⟩
        rw [Int.sign_eq_neg_one_of_neg q, Int.sign_eq_neg_one_of_neg q'] at h4
        omega
      · have : z.1 = 0 := by omega
        rw [q, this] at h4
        omega
      · rw [Int.sign_eq_one_of_pos q] at h4
        rcases Int.lt_trichotomy z.1 0 with r | r | r
        · rw [Int.sign_eq_neg_one_of_neg r] at h4
          omega
        · rw [r] at h4
          simp at h4
        · rw [Int.sign_eq_one_of_pos r] at h4
          omega
  · rintro (h | ⟨h1, h2 | ⟨h3, h4, h5⟩⟩)
    · exact Or.inl h
    · exact Or.inr ⟨h1, Or.inl h2⟩
    · refine Or.inr ⟨h1, Or.inr ⟨h3, ?_⟩⟩
      have : 0 < z.1 := by omega
      rw [Int.sign_eq_one_of_pos this, Int.sign_eq_neg_one_of_neg h4]
      decide
theorem bt_irr (z : xI) : ¬ btZ z z := by
  unfold btZ
  omega
theorem bt_tr {a b c : xI} (h : btZ a b) (h' : btZ b c) : btZ a c := by
  unfold btZ at *
  omega
theorem bt_asy {a b : xI} (h : btZ a b) (h' : btZ b a) : False := bt_irr a (bt_tr h h')
/-- pairs with their sign chosen -/
def nrm (z : xI) : Prop := 0 < z.2 ∨ (z.2 = 0 ∧ 0 < z.1)
theorem bt_tot {a b : xI} (ha : nrm a) (hb : nrm b) : btZ a b ∨ a = b ∨ btZ b a := by
  unfold btZ
  by_cases e : a = b
  · exact Or.inr (Or.inl e)
  · have : ¬ (a.1 = b.1 ∧ a.2 = b.2) := fun q => e (Prod.ext q.1 q.2)
    unfold nrm at ha hb
    omega
theorem trn_nrm {z : xI} (h : z ≠ (0, 0)) : nrm (trn z) := by
  unfold trn
  split
  · rename_i c
    exact c
  · rename_i c
    unfold nrm
    have : ¬ (z.1 = 0 ∧ z.2 = 0) := fun q => h (Prod.ext q.1 q.2)
    simp only
    omega
theorem trn_id {z : xI} (h : nrm z) : trn z = z := if_pos h
theorem trn_or (z : xI) : trn z = z ∨ trn z = (-z.1, -z.2) := by
  unfold trn
  split
  · exact Or.inl rfl
  · exact Or.inr rfl
theorem trn_neg {z : xI} (h : z ≠ (0, 0)) : trn (-z.1, -z.2) = trn z := by
  have : ¬ (z.1 = 0 ∧ z.2 = 0) := fun q => h (Prod.ext q.1 q.2)
  obtain ⟨x, y⟩ := z
  unfold trn
  simp only at this ⊢
  by_cases c : 0 < y ∨ (y = 0 ∧ 0 < x)
  · rw [if_pos c, if_neg (by omega), Int.neg_neg, Int.neg_neg]
  · rw [if_neg c, if_pos (by omega)]
theorem trn_abs (z : xI) : (trn z).1.natAbs = z.1.natAbs ∧ (trn z).2.natAbs = z.2.natAbs := by
  rcases trn_or z with e | e <;> rw [e]
  · exact ⟨rfl, rfl⟩
  · exact ⟨Int.natAbs_neg _, Int.natAbs_neg _⟩
theorem mv_neg (m : mxI) (z : xI) : mv m (-z.1, -z.2) = (-(mv m z).1, -(mv m z).2) := by
  refine Prod.ext ?_ ?_ <;> (simp only [mv]; grind)
theorem mv_zero (m : mxI) : mv m (0, 0) = (0, 0) := by
  refine Prod.ext ?_ ?_ <;> (simp only [mv]; grind)
theorem mv_ne {m : mxI} (h : dM m = 1) {z : xI} (hz : z ≠ (0, 0)) : mv m z ≠ (0, 0) := fun e => by
  have := congrArg (mv (ivM m)) e
  rw [← mv_mm, iv_mm h, mv_one, mv_zero] at this
  exact hz this
/-- a step takes no heed of the sign -/
theorem st_trn {m : mxI} (h : dM m = 1) {z : xI} (hz : z ≠ (0, 0)) : stQ m.1 m.2.1 m.2.2.1 m.2.2.2 (trn z) = trn (mv m z) := by
  show trn (mv m (trn z)) = _
  rcases trn_or z with e | e <;> rw [e]
  rw [mv_neg, trn_neg (mv_ne h hz)]
theorem sg_trn {e : Int} (he : e = 1 ∨ e = -1) (m : mxI) {z : xI} (hz : mv m z ≠ (0, 0)) : trn (mv (sgM e m) z) = trn (mv m z) := by
  have : mv (sgM e m) z = (e * (mv m z).1, e * (mv m z).2) := by
    refine Prod.ext ?_ ?_ <;> (simp only [mv, sgM]; grind)
  rw [this]
  rcases he with rfl | rfl
  · rw [Int.one_mul, Int.one_mul]
  · rw [Int.neg_one_mul, Int.neg_one_mul, trn_neg hz]
/-- powers of a matrix -/
def pwM (V : mxI) : Nat → mxI
  | 0 => I2
  | n + 1 => mm V (pwM V n)
theorem pwM_det {V : mxI} (h : dM V = 1) : ∀ n, dM (pwM V n) = 1
  | 0 => rfl
  | n + 1 => by
    show dM (mm V (pwM V n)) = 1
    rw [dM_mm, h, pwM_det h n]
    rfl
theorem pwM_comm (V : mxI) : ∀ n, mm (pwM V n) V = mm V (pwM V n)
  | 0 => by rw [show pwM V 0 = I2 from rfl, one_mm, mm_one]
  | n + 1 => by
    show mm (mm V (pwM V n)) V = mm V (mm V (pwM V n))
    rw [mm_assoc, pwM_comm V n]
def zpM (V : mxI) (j : Int) : mxI := if 0 ≤ j then pwM V j.toNat else pwM (ivM V) (-j).toNat
theorem zpM_suc {V : mxI} (h : dM V = 1) (j : Int) : zpM V (j + 1) = mm V (zpM V j) := by
  unfold zpM
  by_cases c : 0 ≤ j
  · rw [if_pos c, if_pos (by omega), show (j + 1).toNat = j.toNat + 1 by omega]
    rfl
  · rw [if_neg c]
    obtain ⟨n, hn⟩ : ∃ n : Nat, (-j).toNat = n + 1 := ⟨(-j).toNat - 1, by omega⟩
    have e1 : mm V (pwM (ivM V) (n + 1)) = pwM (ivM V) n := by
      show mm V (mm (ivM V) (pwM (ivM V) n)) = _
      rw [← mm_assoc, mm_iv h, one_mm]
    rw [hn, e1]
    by_cases c2 : 0 ≤ j + 1
    · rw [if_pos c2]
      have : n = 0 := by omega
      subst this
      rw [show (j + 1).toNat = 0 by omega]
      rfl
    · rw [if_neg c2, show (-(j + 1)).toNat = n by omega]
theorem zpM_det {V : mxI} (h : dM V = 1) (j : Int) : dM (zpM V j) = 1 := by
  unfold zpM
  split
  · exact pwM_det h _
  · exact pwM_det (by rw [dM_iv]; exact h) _
theorem zpM_zero (V : mxI) : zpM V 0 = I2 := rfl
/-- the orbit of a pair -/
def orb (V : mxI) (z : xI) (j : Int) : xI := mv (zpM V j) z
theorem orb_suc {V : mxI} (h : dM V = 1) (z : xI) (j : Int) : orb V z (j + 1) = mv V (orb V z j) := by
  unfold orb
  rw [zpM_suc h, mv_mm]
theorem orb_pre {V : mxI} (h : dM V = 1) (z : xI) (j : Int) : orb V z (j - 1) = mv (ivM V) (orb V z j) := by
  have := orb_suc h z (j - 1)
  rw [show j - 1 + 1 = j by omega] at this
  rw [this, ← mv_mm, iv_mm h, mv_one]
theorem orb_ne {V : mxI} (h : dM V = 1) {z : xI} (hz : z ≠ (0, 0)) (j : Int) : orb V z j ≠ (0, 0) := mv_ne (zpM_det h j) hz
/-- three of a row -/
theorem orb_rec {V : mxI} (h : dM V = 1) (z : xI) (j : Int) : (orb V z (j + 1)).2 + (orb V z (j - 1)).2 = (V.1 + V.2.2.2) * (orb V z j).2 ∧ (orb V z (j + 1)).1 + (orb V z (j - 1)).1 = (V.1 + V.2.2.2) * (orb V z j).1 := by
  rw [orb_suc h, orb_pre h]
  generalize orb V z j = o
  constructor <;> (simp only [mv, ivM]; grind)
/-- where a search by steps stops -/
theorem mv_stop {V : mxI} (h : dM V = 1) {z : xI} (hz : z ≠ (0, 0)) {ms : Int} (hms : ∀ j, btZ (trn (orb V z (j + 1))) (trn (orb V z j)) ↔ j < ms) (hbd : ∀ j : Int, (0 ≤ j ∧ j ≤ ms) ∨ (ms ≤ j ∧ j ≤ 0) ∨ j = 0 ∨ j = ms → bdQ V.1 V.2.1 V.2.2.1 V.2.2.2 (trn (orb V z j)) ∧ bdQ V.2.2.2 (-V.2.1) (-V.2.2.1) V.1 (trn (orb V z j))) : ∃ n n', mvT V.1 V.2.1 V.2.2.1 V.2.2.2 n (trn z) ∧ mvT V.2.2.2 (-V.2.1) (-V.2.2.1) V.1 n' (itQ V.1 V.2.1 V.2.2.1 V.2.2.2 n (trn z)) ∧ trn (orb V z ms) = itQ V.2.2.2 (-V.2.1) (-V.2.2.1) V.1 n' (itQ V.1 V.2.1 V.2.2.1 V.2.2.2 n (trn z)) := by
  have o0 : orb V z 0 = z := by
    unfold orb
    rw [zpM_zero, mv_one]
  have ne := fun j => orb_ne h hz j
  have hiv : dM (ivM V) = 1 := by rw [dM_iv]; exact h
  have fw : ∀ j, stQ V.1 V.2.1 V.2.2.1 V.2.2.2 (trn (orb V z j)) = trn (orb V z (j + 1)) := fun j => by
    rw [st_trn h (ne j), ← orb_suc h]
  have bw : ∀ j, stQ V.2.2.2 (-V.2.1) (-V.2.2.1) V.1 (trn (orb V z j)) = trn (orb V z (j - 1)) := fun j => by
    rw [orb_pre h]
    exact st_trn hiv (ne j)
  have back : ∀ j, btZ (trn (orb V z (j - 1))) (trn (orb V z j)) ↔ ms < j := by
    intro j
    have h1 := hms (j - 1)
    rw [show j - 1 + 1 = j by omega] at h1
    constructor
    · intro q
      rcases Int.lt_or_le ms j with r | r
      · exact r
      · exact (bt_asy q (h1.2 (by omega))).elim
    · intro q
      rcases bt_tot (trn_nrm (ne (j - 1))) (trn_nrm (ne j)) with r | r | r
      · exact r
      · -- equal: not better there, so not before
        exfalso
        have h2 : ¬ btZ (trn (orb V z j)) (trn (orb V z (j - 1))) := fun x => by
          have := h1.1 x
          omega
        -- the orbit then stands still
        have h3 := fw (j - 1)
        rw [show j - 1 + 1 = j by omega, r, fw j] at h3
        -- all later ones are the same; go down to ms
        have all : ∀ k : Nat, trn (orb V z (j - 1 - k)) = trn (orb V z j) := by
          intro k
          induction k with
          | zero => rw [show j - 1 - ((0 : Nat) : Int) = j - 1 by omega]; exact r
          | succ k ih =>
            have h4 := bw (j - 1 - k)
            rw [ih, bw j, r] at h4
            rw [show j - 1 - ((k + 1 : Nat) : Int) = j - 1 - k - 1 by omega]
            exact h4.symm
        have h5 := (hms (ms - 1)).2 (by omega)
        rw [show ms - 1 + 1 = ms by omega] at h5
        have a1 := all (j - 1 - ms).toNat
        rw [show j - 1 - ((j - 1 - ms).toNat : Int) = ms by omega] at a1
        have a2 := all (j - ms).toNat
        rw [show j - 1 - ((j - ms).toNat : Int) = ms - 1 by omega] at a2
        rw [a1, a2] at h5
        exact bt_irr _ h5
      · have := h1.1 r
        omega
  -- forward
  have f1 : ∀ (n : Nat) (j : Int), j + n = ms → 0 ≤ j → mvT V.1 V.2.1 V.2.2.1 V.2.2.2 n (trn (orb V z j)) ∧ itQ V.1 V.2.1 V.2.2.1 V.2.2.2 n (trn (orb V z j)) = trn (orb V z ms) := by
    intro n
    induction n with
    | zero =>
      intro j hj j0
      have : j = ms := by omega
      subst this
      refine ⟨⟨(hbd j (by omega)).1, ?_⟩, rfl⟩
      rw [fw, bf_bt, hms]
      omega
    | succ n ih =>
      intro j hj j0
      obtain ⟨a1, a2⟩ := ih (j + 1) (by omega) (by omega)
      refine ⟨⟨(hbd j (by omega)).1, ?_, ?_⟩, ?_⟩
      · rw [fw, bf_bt, hms]
        omega
      · rw [fw]
        exact a1
      · show itQ _ _ _ _ n (stQ _ _ _ _ _) = _
        rw [fw]
        exact a2
  have b1 : ∀ (n : Nat) (j : Int), j - n = ms → j ≤ 0 ∨ j = ms → mvT V.2.2.2 (-V.2.1) (-V.2.2.1) V.1 n (trn (orb V z j)) ∧ itQ V.2.2.2 (-V.2.1) (-V.2.2.1) V.1 n (trn (orb V z j)) = trn (orb V z ms) := by
    intro n
    induction n with
    | zero =>
      intro j hj j0
      have : j = ms := by omega
      subst this
      refine ⟨⟨(hbd j (by omega)).2, ?_⟩, rfl⟩
      rw [bw, bf_bt, back]
      omega
    | succ n ih =>
      intro j hj j0
      obtain ⟨a1, a2⟩ := ih (j - 1) (by omega) (by omega)
      refine ⟨⟨(hbd j (by omega)).2, ?_, ?_⟩, ?_⟩
      · rw [bw, bf_bt, back]
        omega
      · rw [bw]
        exact a1
      · show itQ _ _ _ _ n (stQ _ _ _ _ _) = _
        rw [bw]
        exact a2
  rcases Int.lt_or_le ms 0 with q | q
  · -- no step forward, then back
    have hz0 : mvT V.1 V.2.1 V.2.2.1 V.2.2.2 0 (trn (orb V z 0)) := by
      refine ⟨(hbd 0 (by omega)).1, ?_⟩
      rw [fw, bf_bt, hms]
      omega
    obtain ⟨c1, c2⟩ := b1 (-ms).toNat 0 (by omega) (by omega)
    rw [o0] at hz0 c1 c2
    exact ⟨0, (-ms).toNat, hz0, c1, c2.symm⟩
  · obtain ⟨c1, c2⟩ := f1 ms.toNat 0 (by omega) (by omega)
    obtain ⟨e1, e2⟩ := b1 0 ms (by omega) (by omega)
    rw [o0] at c1 c2
    refine ⟨ms.toNat, 0, c1, ?_, ?_⟩
    · rw [c2]
      exact e1
    · rw [c2]
      exact e2.symm
