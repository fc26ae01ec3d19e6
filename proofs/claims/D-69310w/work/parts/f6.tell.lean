/-! tellers: both ways tell the same classes -/
section
variable {d w : Int} {n : Nat} {A : Nat → pI} {nxt : Nat → Nat} {cls : Nat → Int} {cnt : Nat} {nm : Nat → Nat}
theorem cp_ex (T : isTF d w n A nxt cls cnt nm) : ∃ cp : pI → Nat, ∀ k, k < n → cls k = (cp (A k) : Int) ∧ cp (A k) < cnt := by
  have h : ∀ p : pI, ∃ c : Nat, ∀ k, k < n → A k = p → cls k = (c : Int) ∧ c < cnt := by
    intro p
    by_cases h : ∃ k, k < n ∧ A k = p
    · obtain ⟨k, k1, k2⟩ := h
      obtain ⟨c, c1, c2⟩ := T.2.2.1 k k1
      refine ⟨c, fun j j1 j2 => ?_⟩
      have : j = k := sst_inj T.1.2.2.2.2.2.2.1 j1 k1 (j2.trans k2.symm)
      subst this
      exact ⟨c2, c1⟩
    · exact ⟨0, fun k k1 k2 => (h ⟨k, k1, k2⟩).elim⟩
  obtain ⟨cp, hcp⟩ := Classical.axiomOfChoice h
  exact ⟨cp, fun k hk => hcp (A k) k hk rfl⟩
theorem tr_place (T : isTF d w n A nxt cls cnt nm) (hw : wdP d w) (hw4 : w ≤ 1024) {x : Int} (hx : inQ x) {g b : Nat} (h : isTrl d x g b) : ∃ k, k < n ∧ itF d w (lnF d w (frmO d (x.tdiv ((g * g : Nat) : Int)) b)) (frmO d (x.tdiv ((g * g : Nat) : Int)) b) = fmP d (A k) := by
  obtain ⟨hV, ht, -, -⟩ := trial_all T.1.1 T.1.2.2.1 hw hw4 hx h
  obtain ⟨ok, rd⟩ := trm_rd _ _ ht
  exact tf_red T (it_vld T.1.1 _ _ hV) ok rd
theorem tel_ex (T : isTF d w n A nxt cls cnt nm) (hw : wdP d w) (hw4 : w ≤ 1024) {x : Int} (hx : inQ x) : ∃ ts', tlX d w n A cls cnt x ts' := by
  obtain ⟨cp, hcp⟩ := cp_ex T
  have hn := T.1.1
  have hdb := T.1.2.2.1
  have x0 := hx.1
  have hd0 : d ≠ 0 := fun z => hn 0 (by rw [z]; rfl)
  obtain ⟨cf, hcf⟩ : ∃ cf : Tr → Nat, cf = fun t => cp (t.2.2.1, t.2.2.2.1) := ⟨_, rfl⟩
  have e11 : x.tdiv ((1 * 1 : Nat) : Int) = x := Int.tdiv_one x
  have one : ∀ {t : Tr}, t ∈ tAll d w x → t.1 ≤ 1 → ∃ b, isTrl d x 1 b ∧ t = rc1 d w 1 x b := by
    intro t ht h1
    obtain ⟨g, b, hb, rfl⟩ := (tAll_mem x0).1 ht
    have hg : ((g : Nat) : Int) ≤ 1 := h1
    have : g = 1 := by
      have := hb.1
      omega
    subst this
    refine ⟨b, hb, ?_⟩
    rw [e11]
    rfl
  have isT1 : ∀ y : Nat, isTrl d x 1 y ↔ y < teY d x ∧ prY d x y := by
    intro y
    unfold isTrl teY prY
    rw [e11, rts_mem]
    have e2 : cpF (frmO d x y) = true ↔ Int.gcd (Int.gcd x y) (fmP d (x, (y : Int))).2.2 = 1 := by
      unfold cpF
      rw [decide_eq_true_eq]
      exact Iff.rfl
    rw [e2]
    by_cases c : 0 < d ∨ 0 < x
    · rw [if_pos c]
      refine ⟨fun h => ⟨h.2.2.2.1.1, h.2.2.2.1.2, h.2.2.2.2⟩, fun h => ⟨by decide, ?_, by omega, ⟨h.1, h.2.1⟩, h.2.2⟩⟩
      exact Int.tmod_one x
    · rw [if_neg c]
      refine ⟨fun h => ?_, fun h => ?_⟩
      · have := h.2.2.1
        omega
      · have := h.1
        omega
  refine ⟨teL (hitC (tAll d w x) cf (tAll d w x).length) cnt, okT_of hn hdb hw hw4 hx, ⟨cf, fun t ht h1 => ?_, rfl⟩, fun t ht => ?_, fun y => cf (rc1 d w 1 x y), fun y hy hp => ?_, ?_⟩
  · obtain ⟨b, hb, rfl⟩ := one ht h1
    obtain ⟨k, k1, k2⟩ := tr_place T hw hw4 hx hb
    rw [e11] at k2
    have q1 : (rc1 d w 1 x b).2.2.1 = (A k).1 := congrArg (fun f : Fm => f.1) k2
    have q2 : (rc1 d w 1 x b).2.2.2.1 = (A k).2 := congrArg (fun f : Fm => f.2.1) k2
    have q3 : cf (rc1 d w 1 x b) = cp (A k) := by
      rw [hcf]
      show cp ((rc1 d w 1 x b).2.2.1, (rc1 d w 1 x b).2.2.2.1) = _
      rw [q1, q2]
    refine ⟨k, k1, q1, q2, ?_, ?_⟩
    · rw [q3]
      exact (hcp k k1).1
    · rw [q3]
      exact (hcp k k1).2
  · obtain ⟨g, b, hb, rfl⟩ := (tAll_mem x0).1 ht
    show -2147483648 ≤ ((g : Nat) : Int) ∧ ((g : Nat) : Int) < 2147483648
    have h1 := (tl_le x0 hb).1
    have h2 := hb.1
    have : g * 1 ≤ g * g := Nat.mul_le_mul_left g (by omega)
    obtain ⟨-, y1, y2⟩ := hx
    omega
  · have hb := (isT1 y).2 ⟨hy, hp⟩
    obtain ⟨k, k1, k2⟩ := tr_place T hw hw4 hx hb
    obtain ⟨hV, ht, -, -⟩ := trial_all hn hdb hw hw4 hx hb
    rw [e11] at k2 hV ht
    have ef : fmP d (x, (y : Int)) = frmO d x y := rfl
    have q1 : (itF d w (lnF d w (frmO d x y)) (frmO d x y)).1 = (A k).1 := congrArg (fun f : Fm => f.1) k2
    have q2 : (itF d w (lnF d w (frmO d x y)) (frmO d x y)).2.1 = (A k).2 := congrArg (fun f : Fm => f.2.1) k2
    have q3 : cf (rc1 d w 1 x y) = cp (A k) := by
      rw [hcf]
      show cp ((itF d w (lnF d w (frmO d x y)) (frmO d x y)).1, (itF d w (lnF d w (frmO d x y)) (frmO d x y)).2.1) = _
      rw [q1, q2]
    refine ⟨lnF d w (frmO d x y), k, ?_, fun hd => ?_, k1, ?_, ?_, ?_⟩
    · rw [ef]
      exact ht
    · rw [ef]
      exact posT_vl hn hd _ _ hV
    · rw [ef]
      exact ⟨q1, q2⟩
    · show cls k = (cf (rc1 d w 1 x y) : Int)
      rw [q3]
      exact (hcp k k1).1
    · show cf (rc1 d w 1 x y) < cnt
      rw [q3]
      exact (hcp k k1).2
  · congr 1
    funext k
    refine propext ⟨?_, ?_⟩
    · rintro ⟨j, t, h1, h2, h3, h4⟩
      obtain ⟨b, hb, rfl⟩ := one (List.mem_of_getElem? h2) h3
      obtain ⟨y1, y2⟩ := (isT1 b).1 hb
      exact ⟨b, y1, y2, h4⟩
    · rintro ⟨y, y1, y2, h4⟩
      have hb := (isT1 y).2 ⟨y1, y2⟩
      have hm : rc1 d w 1 x y ∈ tAll d w x := (tAll_mem x0).2 ⟨1, y, hb, by rw [e11]; rfl⟩
      obtain ⟨j, hj, e⟩ := List.mem_iff_getElem.1 hm
      exact ⟨j, rc1 d w 1 x y, hj, by rw [List.getElem?_eq_getElem hj, e], by show ((1 : Nat) : Int) ≤ 1; decide, h4⟩
end
