/-! solutions above 0: the model's list is the house's -/
section
variable {d w : Int} {n : Nat} {A : Nat → pI} {nxt : Nat → Nat} {cls : Nat → Int} {cnt : Nat} {nm : Nat → Nat}
noncomputable def rfL (d w : Int) (r0 : Fm) (r : Nat) (zt : Tr → xI) (g m b : Int) : List Fam := if (cpF (frmO d m b) && metN d w r0 r (rcT d w g m b (lnF d w (frmO d m b)))) = true then [(g, b, zt (rcT d w g m b (lnF d w (frmO d m b))))] else []
theorem mS_eq (hd0 : 0 < d) {r0 : Fm} {r : Nat} {zt : Tr → xI} {x : Int} (g : Nat) : mS (rfL d w r0 r zt) d x g = ((trS d w x g).filter (metN d w r0 r)).map (fun tr : Tr => ((tr.1, tr.2.1, zt tr) : Fam)) := by
  unfold mS trS
  by_cases c : x.tmod ((g * g : Nat) : Int) = 0
  · rw [if_pos c, if_pos ⟨c, by omega⟩, rR_rts]
    unfold trB
    rw [List.filter_map, List.map_map, List.filter_filter]
    have := flat_if (fun b : Nat => cpF (frmO d (x.tdiv ((g * g : Nat) : Int)) b) && metN d w r0 r (rc1 d w g (x.tdiv ((g * g : Nat) : Int)) b)) (fun b : Nat => (((g : Int), (b : Int), zt (rc1 d w g (x.tdiv ((g * g : Nat) : Int)) b)) : Fam)) (rtsOf d (x.tdiv ((g * g : Nat) : Int)))
    refine Eq.trans this ?_
    have e : (fun b : Nat => cpF (frmO d (x.tdiv ((g * g : Nat) : Int)) b) && metN d w r0 r (rc1 d w g (x.tdiv ((g * g : Nat) : Int)) b)) = fun a : Nat => (metN d w r0 r ∘ rc1 d w g (x.tdiv ((g * g : Nat) : Int))) a && cpF (frmO d (x.tdiv ((g * g : Nat) : Int)) a) := by
      funext b
      exact Bool.and_comm _ _
    rw [e]
    rfl
  · rw [if_neg c, if_neg (fun q => c q.1)]
    rfl
theorem mF_eq (hd0 : 0 < d) {r0 : Fm} {r : Nat} {zt : Tr → xI} {x : Int} : ∀ c k : Nat, ((trA d w x k).filter (metN d w r0 r)).map (fun tr : Tr => ((tr.1, tr.2.1, zt tr) : Fam)) ++ mF (rfL d w r0 r zt) d x c (k + 1) = ((trA d w x (k + c)).filter (metN d w r0 r)).map (fun tr : Tr => ((tr.1, tr.2.1, zt tr) : Fam))
  | 0, k => by
    show _ ++ [] = _
    rw [List.append_nil]
    rfl
  | c + 1, k => by
    show _ ++ (mS (rfL d w r0 r zt) d x (k + 1) ++ mF (rfL d w r0 r zt) d x c (k + 1 + 1)) = _
    rw [mS_eq hd0, ← List.append_assoc, ← List.map_append, ← List.filter_append]
    have := mF_eq hd0 (r0 := r0) (r := r) (zt := zt) (x := x) c (k + 1)
    rw [show k + 1 + c = k + (c + 1) by omega] at this
    exact this
theorem frm_d {m : Int} {b : Nat} (hm : m ≠ 0) (hr : rtD (4 * m.natAbs) d b) : dF (frmO d m b) = d ∧ 4 * m * (frmO d m b).2.2 = (b : Int) * b - d := by
  have h4 : (4 * m) ∣ (b : Int) * b - d := by
    obtain ⟨k, hk⟩ := hr
    have e : ((4 * m.natAbs : Nat) : Int) = 4 * (m.natAbs : Int) := by omega
    rw [e] at hk
    rcases Int.natAbs_eq m with z | z
    · exact ⟨k, by rw [hk, ← z]⟩
    · have z' : (m.natAbs : Int) = -m := by omega
      exact ⟨-k, by rw [hk, z']; grind⟩
  have e : 4 * m * (frmO d m b).2.2 = (b : Int) * b - d := Int.mul_tdiv_cancel' h4
  refine ⟨?_, e⟩
  show (b : Int) * b - 4 * m * (frmO d m b).2.2 = d
  omega
/-- SOLUTIONS ABOVE 0 -/
theorem sol_above (T : isTF d w n A nxt cls cnt nm) (hd0 : 0 < d) (hw : isWd d w) (hw4 : w ≤ 1024) {F : Fm} {e k c r i0 : Nat} {pl : Nat → Nat} (h : hnP d w n A cls cnt nm F e k c r i0 pl) {t u : Int} (hu : isUu d t u) {x : Int} (hx : inQ x) : ∃ fs', slX d w t u F e e r x fs' ∧ ∀ fam, fam ∈ fs' → (fam.2.2.1.natAbs : Int) < pB 1024 ∧ (fam.2.2.2.natAbs : Int) < pB 1024 := by
  have hn := T.1.1
  have hdb := T.1.2.2.1
  have x0 := hx.1
  obtain ⟨zt, hzt⟩ := Classical.axiomOfChoice (fun tr => gdZ_ex T hd0 hw hw4 h hu hx tr)
  obtain ⟨hs1, hs2⟩ := slP_of T (Or.inr ⟨hd0, hw⟩) hw4 h hu hx (zt := zt) (fun tr htr p hp hh => by
    obtain ⟨g, b, hb, he⟩ := (tAll_mem x0).1 htr
    exact (hzt tr g b hb he p hp hh).1)
  refine ⟨((tAll d w x).filter (metN d w (itF d w e F) r)).map (fun tr : Tr => ((tr.1, tr.2.1, zt tr) : Fam)), ⟨by omega, hs1, fun _ => ⟨2170, rfL d w (itF d w e F) r zt, by decide, fun g b g0 hg hb hr => ?_, ?_⟩, fun z => by omega⟩, fun fam hfam => ?_⟩
  · obtain ⟨e1, e2⟩ := sq_dv hg
    have m0 : x.tdiv ((g * g : Nat) : Int) ≠ 0 := fun z => by
      rw [z, Int.zero_mul] at e1
      exact x0 e1
    have mb : (x.tdiv ((g * g : Nat) : Int)).natAbs ≤ 1000000 := by
      obtain ⟨-, x1, x2⟩ := hx
      have gg := Nat.mul_pos g0 g0
      have : (x.tdiv ((g * g : Nat) : Int)).natAbs * 1 ≤ (x.tdiv ((g * g : Nat) : Int)).natAbs * (g * g) := Nat.mul_le_mul_left _ gg
      omega
    obtain ⟨hD, he⟩ := frm_d (d := d) m0 hr
    have cf := frm_cf hdb ⟨m0, mb⟩ hb he
    obtain ⟨ee, a1, a2⟩ := walkP hn hdb.2 hd0 hw hw4 hD (H := 2097152) ⟨by decide, by decide⟩ cf
    have hl : trm d w (lnF d w (frmO d (x.tdiv ((g * g : Nat) : Int)) b)) (frmO d (x.tdiv ((g * g : Nat) : Int)) b) := Classical.epsilon_spec (p := fun n => trm d w n (frmO d (x.tdiv ((g * g : Nat) : Int)) b)) ⟨ee, a1⟩
    have hle := trm_uniq hl a1
    rw [← hle] at a2
    have hcp : (Int.gcd (Int.gcd (x.tdiv ((g * g : Nat) : Int)) b) (frmO d (x.tdiv ((g * g : Nat) : Int)) b).2.2 = 1) ↔ cpF (frmO d (x.tdiv ((g * g : Nat) : Int)) b) = true := by
      unfold cpF
      rw [decide_eq_true_eq]
      exact Iff.rfl
    have isT : cpF (frmO d (x.tdiv ((g * g : Nat) : Int)) b) = true → isTrl d x g b := fun q => ⟨g0, hg, by omega, rts_mem.2 ⟨hb, hr⟩, q⟩
    have hit : ∀ i, ((fun i => ((itF d w i (itF d w e F)).1, (itF d w i (itF d w e F)).2.1)) i = ((itF d w (lnF d w (frmO d (x.tdiv ((g * g : Nat) : Int)) b)) (frmO d (x.tdiv ((g * g : Nat) : Int)) b)).1, (itF d w (lnF d w (frmO d (x.tdiv ((g * g : Nat) : Int)) b)) (frmO d (x.tdiv ((g * g : Nat) : Int)) b)).2.1)) ↔ hitT (itF d w i (itF d w e F)) (rcT d w g (x.tdiv ((g * g : Nat) : Int)) b (lnF d w (frmO d (x.tdiv ((g * g : Nat) : Int)) b))) = true := by
      intro i
      unfold hitT
      rw [decide_eq_true_eq, rcT_eq, Prod.mk.injEq]
      exact ⟨fun q => ⟨q.1.symm, q.2.symm⟩, fun q => ⟨q.1.symm, q.2.symm⟩⟩
    refine ⟨fun _ => hl, ?_, fun np => ?_, fun pr no => ?_, fun pr p hp hp1 hp2 => ?_⟩
    · rw [rcT_eq]
      obtain ⟨q1, q2, q3, q4⟩ := a2
      have z1 : (xyT d w (frmO d (x.tdiv ((g * g : Nat) : Int)) b) (lnF d w (frmO d (x.tdiv ((g * g : Nat) : Int)) b))).1.natAbs ≤ 34359738368 := q4
      have z2 : (xyT d w (frmO d (x.tdiv ((g * g : Nat) : Int)) b) (lnF d w (frmO d (x.tdiv ((g * g : Nat) : Int)) b))).2.natAbs ≤ 34359738368 := by
        show (-(itM d w _ _ I2).2.2.1).natAbs ≤ _
        rw [Int.natAbs_neg]
        exact q3
      show (-9223372036854775808 < (xyT d w (frmO d (x.tdiv ((g * g : Nat) : Int)) b) (lnF d w (frmO d (x.tdiv ((g * g : Nat) : Int)) b))).1 ∧ (xyT d w (frmO d (x.tdiv ((g * g : Nat) : Int)) b) (lnF d w (frmO d (x.tdiv ((g * g : Nat) : Int)) b))).1 < 9223372036854775808) ∧ -9223372036854775808 < (xyT d w (frmO d (x.tdiv ((g * g : Nat) : Int)) b) (lnF d w (frmO d (x.tdiv ((g * g : Nat) : Int)) b))).2 ∧ (xyT d w (frmO d (x.tdiv ((g * g : Nat) : Int)) b) (lnF d w (frmO d (x.tdiv ((g * g : Nat) : Int)) b))).2 < 9223372036854775808
      omega
    · unfold rfL
      rw [if_neg]
      intro q
      rw [Bool.and_eq_true] at q
      exact np (hcp.2 q.1)
    · unfold rfL
      rw [if_neg]
      intro q
      rw [Bool.and_eq_true] at q
      obtain ⟨j, j1, j2⟩ := met_iff.1 q.2
      exact no j j1 ((hit j).2 j2)
    · have hh := (hit p).1 hp1
      have hb' := isT (hcp.1 pr)
      obtain ⟨-, ⟨u', v', f1, f2⟩, -⟩ := hzt (rcT d w g (x.tdiv ((g * g : Nat) : Int)) b (lnF d w (frmO d (x.tdiv ((g * g : Nat) : Int)) b))) g b hb' rfl p hp hh
      refine ⟨u', v', f1, ?_⟩
      unfold rfL
      rw [if_pos (by
        rw [Bool.and_eq_true]
        exact ⟨hcp.1 pr, met_iff.2 ⟨p, hp, hh⟩⟩), f2]
  · have := mF_eq hd0 (w := w) (r0 := itF d w e F) (r := r) (zt := zt) (x := x) x.natAbs 0
    rw [Nat.zero_add x.natAbs] at this
    exact this
  · obtain ⟨tr, htr, rfl⟩ := List.mem_map.1 hfam
    obtain ⟨h1, h2⟩ := List.mem_filter.1 htr
    obtain ⟨g, b, hb, he⟩ := (tAll_mem x0).1 h1
    obtain ⟨p, p1, p2⟩ := met_iff.1 h2
    exact (hzt tr g b hb he p p1 p2).2.2
end
