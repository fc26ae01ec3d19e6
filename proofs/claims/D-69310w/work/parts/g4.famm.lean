/-! a family above 0: what the model finds -/
theorem uni_back {V : mxI} (h : dM V = 1) {z : xI} (hz : z ≠ (0, 0)) {ms : Int} (hms : ∀ j, btZ (trn (orb V z (j + 1))) (trn (orb V z j)) ↔ j < ms) (j : Int) : btZ (trn (orb V z (j - 1))) (trn (orb V z j)) ↔ ms < j := by
  have ne := fun j => orb_ne h hz j
  have hiv : dM (ivM V) = 1 := by rw [dM_iv]; exact h
  have bw : ∀ j, stQ V.2.2.2 (-V.2.1) (-V.2.2.1) V.1 (trn (orb V z j)) = trn (orb V z (j - 1)) := fun j => by
    rw [orb_pre h]
    exact st_trn hiv (ne j)
  have h1 := hms (j - 1)
  rw [show j - 1 + 1 = j by omega] at h1
  constructor
  · intro q
    rcases Int.lt_or_le ms j with r | r
    · exact r
    · exact (bt_asy q (h1.2 (by omega))).elim
  · intro q
    rcases bt_tot (trn_nrm (ne (j - 1))) (trn_nrm (ne j)) with r | r | r
    · exact r
    · exfalso
      have all : ∀ k : Nat, trn (orb V z (j - 1 - k)) = trn (orb V z j) := by
        intro k
        induction k with
        | zero => rw [show j - 1 - ((0 : Nat) : Int) = j - 1 by omega]; exact r
        | succ k ih =>
          have h4 := bw (j - 1 - k)
          rw [ih, bw j, r] at h4
          rw [show j - 1 - ((k + 1 : Nat) : Int) = j - 1 - k - 1 by omega]
          exact h4.symm
      have h5 := (hms (ms - 1)).2 (by omega)
      rw [show ms - 1 + 1 = ms by omega] at h5
      have a1 := all (j - 1 - ms).toNat
      rw [show j - 1 - ((j - 1 - ms).toNat : Int) = ms by omega] at a1
      have a2 := all (j - ms).toNat
      rw [show j - 1 - ((j - ms).toNat : Int) = ms - 1 by omega] at a2
      rw [a1, a2] at h5
      exact bt_irr _ h5
    · have := h1.1 r
      omega
section
variable {d w : Int} {n : Nat} {A : Nat → pI} {nxt : Nat → Nat} {cls : Nat → Int} {cnt : Nat} {nm : Nat → Nat}
theorem fam_model (T : isTF d w n A nxt cls cnt nm) (hd0 : 0 < d) (hw : isWd d w) {F : Fm} {e k c r i0 : Nat} {pl : Nat → Nat} (h : hnP d w n A cls cnt nm F e k c r i0 pl) {t u : Int} (hu : isUu d t u) {m : Int} (hm : m ≠ 0) {zz : xI} (hz : zz.1.natAbs ≤ 34359738368 ∧ zz.2.natAbs ≤ 34359738368) {p : Nat} (hp : p < r) (hev : evF (itF d w p (itF d w e F)) zz.1 zz.2 = m) {ms : Int} (hms : ∀ j, btZ (trn (orb (auM F t u) (mv (mm (itM d w e F I2) (itM d w p (itF d w e F) I2)) zz) (j + 1))) (trn (orb (auM F t u) (mv (mm (itM d w e F I2) (itM d w p (itF d w e F) I2)) zz) j)) ↔ j < ms) {s : Nat} (hs : (s : Int) = t + 1) (hsz : ∀ j0 : Int, j0 = 0 ∨ j0 = -1 → (-94 ≤ j0 - ms ∧ j0 - ms ≤ 94) ∧ ∀ j, (j0 ≤ j ∧ j ≤ ms) ∨ (ms ≤ j ∧ j ≤ j0) → (orb (auM F t u) (mv (mm (itM d w e F I2) (itM d w p (itF d w e F) I2)) zz) j).1.natAbs ≤ 10633823966279326983230456482242756608 * s ∧ (orb (auM F t u) (mv (mm (itM d w e F I2) (itM d w p (itF d w e F) I2)) zz) j).2.natAbs ≤ 10633823966279326983230456482242756608 * s) : ∃ u' v' : Nat, fmOK 2170 (tnF d w (itF d w e F)) (tnF d w F) r p e zz u' v' ∧ cmZ (tnF d w (itF d w e F)) (tnF d w F) r p e zz (j0R r p + u' - v') = trn (orb (auM F t u) (mv (mm (itM d w e F I2) (itM d w p (itF d w e F) I2)) zz) ms) := by
  have hn := T.1.1
  obtain ⟨hV, ho, ⟨e1, e2, e3, e4, e5, e6⟩, ⟨hVg, ok, rd⟩, -, -, -, hpos⟩ := h
  obtain ⟨hN, -⟩ := hpos hd0
  have hpu := hu.2.2.2.2.2 hd0
  have Rg := (rdF_red hn hd0 hw hVg.1).1 rd
  have hev' : evF F (mv (mm (itM d w e F I2) (itM d w p (itF d w e F) I2)) zz).1 (mv (mm (itM d w e F I2) (itM d w p (itF d w e F) I2)) zz).2 = m := by
    rw [← evM, acM_mm, itM_ac hn hV.1, itM_ac hn hVg.1]
    exact hev
  have hne := ne_of_ev hm hev'
  have hdV := auM_det (f := F) hV.1 hpu.2.2.1
  have both := fun j => orb_both hn hd0 hw (p := p) hV.1 rfl hVg Rg hN hpu zz hne j
  obtain ⟨ζ, hζ⟩ : ∃ ζ, mv (mm (itM d w e F I2) (itM d w p (itF d w e F) I2)) zz = ζ := ⟨_, rfl⟩
  have s1 : 1 ≤ s := by
    have := hpu.1
    omega
  have hsb : s ≤ 2 ^ 15700 := by
    have h1 := hu.2.2.2.2.1
    have h2 := two_cast 15700
    rw [← h2] at h1
    generalize (2 ^ 15700 : Nat) = X at *
    omega
  have hB := big5 hsb
  rw [hζ] at hms hsz hne ⊢
  -- the last vector, up to its sign
  have fin : ∀ j, ∃ ε : Int, (ε = 1 ∨ ε = -1) ∧ mv (itM d w e F I2) (rgZ (tnF d w (itF d w e F)) r p j zz) = (ε * (orb (auM F t u) ζ j).1, ε * (orb (auM F t u) ζ j).2) := by
    intro j
    obtain ⟨ε, hε, hb⟩ := both j
    refine ⟨ε, hε, ?_⟩
    rw [rg_mv hN hp, ← mv_mm, hb]
    have e1 : orb (auM F t u) ζ j = mv (mm (zpM (auM F t u) j) (mm (itM d w e F I2) (itM d w p (itF d w e F) I2))) zz := by
      rw [mv_mm, hζ]
      rfl
    rw [e1]
    generalize mm (zpM (auM F t u) j) (mm (itM d w e F I2) (itM d w p (itF d w e F) I2)) = q
    refine Prod.ext ?_ ?_ <;> (simp only [mv, sgM]; grind)
  have hZ : ∀ j, cmZ (tnF d w (itF d w e F)) (tnF d w F) r p e zz j = trn (orb (auM F t u) ζ j) := by
    intro j
    obtain ⟨ε, hε, hb⟩ := fin j
    show trn (abk (tnF d w F) e (rgZ (tnF d w (itF d w e F)) r p j zz)) = _
    rw [abk_mv, hb]
    rcases hε with rfl | rfl
    · rw [Int.one_mul, Int.one_mul]
    · rw [Int.neg_one_mul, Int.neg_one_mul, trn_neg (orb_ne hdV hne j)]
  obtain ⟨j0, hj0⟩ : ∃ j0, j0R r p = j0 := ⟨_, rfl⟩
  have hj0' : j0 = 0 ∨ j0 = -1 := by
    rw [← hj0]
    unfold j0R
    split
    · exact Or.inr rfl
    · exact Or.inl rfl
  obtain ⟨far, size⟩ := hsz j0 hj0'
  have back := uni_back hdV hne hms
  rw [hj0]
  -- all vectors that are met
  have size2 : ∀ j, j0 - ((j0 - ms).toNat : Nat) - 1 ≤ j → j ≤ j0 + ((ms - j0).toNat : Nat) + 1 → (orb (auM F t u) ζ j).1.natAbs ≤ 45671926166590716193865151022383844364247891968 * (s * s) ∧ (orb (auM F t u) ζ j).2.natAbs ≤ 45671926166590716193865151022383844364247891968 * (s * s) := by
    intro j a1 a2
    have vb := au_bdE hV.1 hu hs ho
    have ss : s * 1 ≤ s * s := Nat.mul_le_mul_left _ s1
    have up : ∀ {q : mxI} {o : xI}, bdE q (2147483648 * s) → o.1.natAbs ≤ 10633823966279326983230456482242756608 * s ∧ o.2.natAbs ≤ 10633823966279326983230456482242756608 * s → (mv q o).1.natAbs ≤ 45671926166590716193865151022383844364247891968 * (s * s) ∧ (mv q o).2.natAbs ≤ 45671926166590716193865151022383844364247891968 * (s * s) := by
      intro q o hq hoo
      have := mv_bd hq hoo
      have e7 : 2 * (2147483648 * s * (10633823966279326983230456482242756608 * s)) = 45671926166590716193865151022383844364247891968 * (s * s) := by grind
      rw [e7] at this
      exact this
    by_cases c1 : (j0 ≤ j ∧ j ≤ ms) ∨ (ms ≤ j ∧ j ≤ j0)
    · have := size j c1
      omega
    · by_cases c2 : (j0 ≤ j - 1 ∧ j - 1 ≤ ms) ∨ (ms ≤ j - 1 ∧ j - 1 ≤ j0)
      · have h1 := up vb (size (j - 1) c2)
        rw [← orb_suc hdV, show j - 1 + 1 = j by omega] at h1
        exact h1
      · have h1 := up (bdE_iv vb) (size (j + 1) (by omega))
        rw [← orb_pre hdV, show j + 1 - 1 = j by omega] at h1
        exact h1
  have big : ∀ {q : mxI} {o o' : xI} {ε : Int}, bdE q 17592186044416 → (ε = 1 ∨ ε = -1) → o = (ε * o'.1, ε * o'.2) → o'.1.natAbs ≤ 45671926166590716193865151022383844364247891968 * (s * s) ∧ o'.2.natAbs ≤ 45671926166590716193865151022383844364247891968 * (s * s) → mxZ (mv (ivM q) o) ≤ 1606938044258990275541962092341162602522202993782792835301376 * (s * s) := by
    intro q o o' ε hq hε ho' hsz'
    have h1 : o.1.natAbs ≤ 45671926166590716193865151022383844364247891968 * (s * s) ∧ o.2.natAbs ≤ 45671926166590716193865151022383844364247891968 * (s * s) := by
      rw [ho']
      rcases hε with rfl | rfl
      · rw [Int.one_mul, Int.one_mul]
        exact hsz'
      · show (-1 * o'.1).natAbs ≤ _ ∧ (-1 * o'.2).natAbs ≤ _
        rw [Int.neg_one_mul, Int.neg_one_mul, Int.natAbs_neg, Int.natAbs_neg]
        exact hsz'
    have h2 := mv_bd (bdE_iv hq) h1
    unfold mxZ
    omega
  refine ⟨(ms - j0).toNat, (j0 - ms).toNat, ⟨⟨by omega, by omega⟩, ⟨fun i hi => ?_, ?_, fun hu0 => ⟨fun i hi => ?_, ?_⟩, fun hu0 => by omega⟩, fun j a1 a2 => ?_⟩, ?_⟩
  · rw [hj0, hZ, hZ, hms]
    omega
  · rw [hj0, hZ, hZ, hms]
    omega
  · rw [hj0, hZ, hZ, back]
    omega
  · rw [hj0, hZ, hZ, back]
    omega
  · rw [hj0] at a1 a2
    have sz := size2 j a1 a2
    obtain ⟨ε, hε, hf⟩ := fin j
    -- the vector in the ring
    have hq : mxZ (rgZ (tnF d w (itF d w e F)) r p j zz) ≤ 1606938044258990275541962092341162602522202993782792835301376 * (s * s) := by
      have h1 := big (e5 e (Nat.le_refl _)) hε hf sz
      rw [← mv_mm, iv_mm (itM_det F e), mv_one] at h1
      exact h1
    have h0 : mxZ zz ≤ 1606938044258990275541962092341162602522202993782792835301376 * (s * s) := by
      have ss : s * 1 ≤ s * s := Nat.mul_le_mul_left _ s1
      unfold mxZ
      omega
    refine ⟨fun c => ?_, fun c => ?_, ?_⟩
    · refine rbkB_of _ _ _ _ _ (fun i hi => bZ_of ?_ hB)
      have e7 : rgZ (tnF d w (itF d w e F)) r p j zz = rbk (tnF d w (itF d w e F)) r (lfR r p j) p zz := if_pos c
      rw [e7, rbk_wk] at hq
      rw [rbk_wk]
      exact wk_conv _ _ zz.1 zz.2 _ (fun i => alt_back hn hd0 hw hVg.1 Rg hN hp i) h0 hq i hi
    · refine ronB_of _ _ _ _ _ (fun i hi => bZ_of ?_ hB)
      have e7 : rgZ (tnF d w (itF d w e F)) r p j zz = ron (tnF d w (itF d w e F)) r (lfR r p j) p zz := if_neg c
      have sw : ∀ z : zI, mxZ (z.2, z.1) = mxZ z := fun z => Nat.max_comm _ _
      rw [e7, ← sw, ron_wk] at hq
      rw [← sw, ron_wk]
      refine wk_conv _ _ zz.2 zz.1 _ (fun i => alt_on hn hd0 hw hVg.1 Rg hN hp i) ?_ hq i hi
      rw [sw]
      exact h0
    · refine abkB_of _ _ _ (bZ_of hq hB) (fun i hi z' hz' => bZ_of ?_ hB)
      rw [abk_mv, abk_mv, hf] at hz'
      have h1 := big (e5 i (by omega)) hε hz' sz
      rw [← mv_mm, iv_mm (itM_det F i), mv_one] at h1
      exact h1
  · rw [hZ, show j0 + ((ms - j0).toNat : Int) - ((j0 - ms).toNat : Int) = ms by omega]
end
