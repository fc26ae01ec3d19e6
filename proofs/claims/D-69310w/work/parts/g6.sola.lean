/-! solutions above 0: house and model -/
section
variable {d w : Int} {n : Nat} {A : Nat → pI} {nxt : Nat → Nat} {cls : Nat → Int} {cnt : Nat} {nm : Nat → Nat}
theorem form_eq (hn : nsq d) {f g : Fm} (hf : dF f = d) (hg : dF g = d) (h1 : f.1 = g.1) (h2 : f.2.1 = g.2.1) : f = g := by
  have a := (fmP_of hf (nsq_1 hn hf)).1
  have b := (fmP_of hg (nsq_1 hn hg)).1
  rw [h1, h2] at a
  exact a.symm.trans b
theorem hit_form (hn : nsq d) {f : Fm} (hf : dF f = d) {g m b : Int} {L : Nat} (hφ : dF (frmO d m b) = d) : hitT f (rcT d w g m b L) = true ↔ itF d w L (frmO d m b) = f := by
  unfold hitT
  rw [decide_eq_true_eq, rcT_eq]
  constructor
  · rintro ⟨h1, h2⟩
    exact form_eq hn (it_d hn L hφ) hf h1 h2
  · intro h
    rw [h]
    exact ⟨rfl, rfl⟩
theorem tl_facts {x : Int} (hx : inQ x) {g b : Nat} (h : isTrl d x g b) : (0 < g ∧ g ≤ 1000) ∧ x.tdiv ((g * g : Nat) : Int) ≠ 0 ∧ (x.tdiv ((g * g : Nat) : Int)).natAbs ≤ 1000000 := by
  obtain ⟨x0, x1, x2⟩ := hx
  obtain ⟨l1, l2, l3⟩ := tl_le x0 h
  obtain ⟨e1, e2⟩ := sq_dv h.2.1
  refine ⟨⟨h.1, ?_⟩, l2, ?_⟩
  · rcases Nat.lt_or_ge 1000 g with z | z
    · have := Nat.mul_le_mul z z
      omega
    · exact z
  · have gg := Nat.mul_pos h.1 h.1
    have : (x.tdiv ((g * g : Nat) : Int)).natAbs * 1 ≤ (x.tdiv ((g * g : Nat) : Int)).natAbs * (g * g) := Nat.mul_le_mul_left _ gg
    omega
/-- what is so of a trial that is met -/
def gdZ (d w t u : Int) (F : Fm) (e r : Nat) (x : Int) (tr : Tr) (z : xI) : Prop := ∀ g b : Nat, isTrl d x g b → tr = rc1 d w g (x.tdiv ((g * g : Nat) : Int)) b → ∀ p, p < r → hitT (itF d w p (itF d w e F)) tr = true → tlP (itM d w p (itF d w e F) (itM d w e F (1, 0, 0, 1))) ((t - u * F.2.1).tdiv 2) (u * -F.2.2) (u * F.1) ((t + u * F.2.1).tdiv 2) tr z ∧ (∃ u' v' : Nat, fmOK 2170 (tnF d w (itF d w e F)) (tnF d w F) r p e (tr.2.2.2.2.1, tr.2.2.2.2.2) u' v' ∧ z = ((g : Int) * (cmZ (tnF d w (itF d w e F)) (tnF d w F) r p e (tr.2.2.2.2.1, tr.2.2.2.2.2) (j0R r p + u' - v')).1, (g : Int) * (cmZ (tnF d w (itF d w e F)) (tnF d w F) r p e (tr.2.2.2.2.1, tr.2.2.2.2.2) (j0R r p + u' - v')).2)) ∧ (z.1.natAbs : Int) < pB 1024 ∧ (z.2.natAbs : Int) < pB 1024
theorem gdZ_ex (T : isTF d w n A nxt cls cnt nm) (hd0 : 0 < d) (hw : isWd d w) (hw4 : w ≤ 1024) {F : Fm} {e k c r i0 : Nat} {pl : Nat → Nat} (h : hnP d w n A cls cnt nm F e k c r i0 pl) {t u : Int} (hu : isUu d t u) {x : Int} (hx : inQ x) (tr : Tr) : ∃ z, gdZ d w t u F e r x tr z := by
  have hn := T.1.1
  have hdb := T.1.2.2.1
  have h' := h
  obtain ⟨hV, ho, -, ⟨hVg, ok, rd⟩, -, -, -, hpos⟩ := h'
  obtain ⟨hN, -⟩ := hpos hd0
  have Rg := (rdF_red hn hd0 hw hVg.1).1 rd
  by_cases c : ∃ g b p : Nat, isTrl d x g b ∧ tr = rc1 d w g (x.tdiv ((g * g : Nat) : Int)) b ∧ p < r ∧ hitT (itF d w p (itF d w e F)) tr = true
  · obtain ⟨g, b, p, i1, i2, i3, i4⟩ := c
    obtain ⟨f1, f2, f3⟩ := tl_facts hx i1
    obtain ⟨t1, t2, t3, t4⟩ := trial_all hn hdb (Or.inr ⟨hd0, hw⟩) hw4 hx i1
    have i4' := i4
    rw [i2] at i4'
    have hform := (hit_form hn (it_d hn p hVg.1) t1.1).1 i4'
    have zzb : (xyT d w (frmO d (x.tdiv ((g * g : Nat) : Int)) b) (lnF d w (frmO d (x.tdiv ((g * g : Nat) : Int)) b))).1.natAbs ≤ 34359738368 ∧ (xyT d w (frmO d (x.tdiv ((g * g : Nat) : Int)) b) (lnF d w (frmO d (x.tdiv ((g * g : Nat) : Int)) b))).2.natAbs ≤ 34359738368 := by
      obtain ⟨q1, q2, q3, q4⟩ := t4 _ (Nat.le_refl _)
      refine ⟨q4, ?_⟩
      show (-(itM d w _ _ I2).2.2.1).natAbs ≤ _
      rw [Int.natAbs_neg]
      exact q3
    have hev := xyT_ev (w := w) hn t1.1 (lnF d w (frmO d (x.tdiv ((g * g : Nat) : Int)) b))
    rw [hform] at hev
    have hev' : evF (itF d w p (itF d w e F)) (xyT d w (frmO d (x.tdiv ((g * g : Nat) : Int)) b) (lnF d w (frmO d (x.tdiv ((g * g : Nat) : Int)) b))).1 (xyT d w (frmO d (x.tdiv ((g * g : Nat) : Int)) b) (lnF d w (frmO d (x.tdiv ((g * g : Nat) : Int)) b))).2 = x.tdiv ((g * g : Nat) : Int) := hev
    have etr : tr = ((g : Int), (b : Int), (itF d w (lnF d w (frmO d (x.tdiv ((g * g : Nat) : Int)) b)) (frmO d (x.tdiv ((g * g : Nat) : Int)) b)).1, (itF d w (lnF d w (frmO d (x.tdiv ((g * g : Nat) : Int)) b)) (frmO d (x.tdiv ((g * g : Nat) : Int)) b)).2.1, (xyT d w (frmO d (x.tdiv ((g * g : Nat) : Int)) b) (lnF d w (frmO d (x.tdiv ((g * g : Nat) : Int)) b))).1, (xyT d w (frmO d (x.tdiv ((g * g : Nat) : Int)) b) (lnF d w (frmO d (x.tdiv ((g * g : Nat) : Int)) b))).2) := by
      rw [i2]
      exact rcT_eq d w g _ b _
    have ezz : (tr.2.2.2.2.1, tr.2.2.2.2.2) = xyT d w (frmO d (x.tdiv ((g * g : Nat) : Int)) b) (lnF d w (frmO d (x.tdiv ((g * g : Nat) : Int)) b)) := by rw [etr]
    have hs : (((t + 1).toNat : Nat) : Int) = t + 1 := Int.toNat_of_nonneg (by have := hu.2.1; omega)
    obtain ⟨ms, c1, c2, c3⟩ := fam_core T hd0 hw hw4 h hu ⟨f2, f3⟩ zzb i3 hev' hs
    have fh := fam_house T hd0 hw hw4 h hu ⟨f2, f3⟩ zzb i3 hev' c1 (c2 0 (Or.inl rfl)).2 f1 (b : Int) (itF d w (lnF d w (frmO d (x.tdiv ((g * g : Nat) : Int)) b)) (frmO d (x.tdiv ((g * g : Nat) : Int)) b)).1 (itF d w (lnF d w (frmO d (x.tdiv ((g * g : Nat) : Int)) b)) (frmO d (x.tdiv ((g * g : Nat) : Int)) b)).2.1
    obtain ⟨u', v', fm1, fm2⟩ := fam_model T hd0 hw h hu f2 zzb i3 hev' c1 hs c2
    have szm := (c2 0 (Or.inl rfl)).2 ms (by omega)
    generalize xyT d w (frmO d (x.tdiv ((g * g : Nat) : Int)) b) (lnF d w (frmO d (x.tdiv ((g * g : Nat) : Int)) b)) = zz at *
    obtain ⟨o, ho'⟩ : ∃ o, trn (orb (auM F t u) (mv (mm (itM d w e F I2) (itM d w p (itF d w e F) I2)) zz) ms) = o := ⟨_, rfl⟩
    have oab := trn_abs (orb (auM F t u) (mv (mm (itM d w e F I2) (itM d w p (itF d w e F) I2)) zz) ms)
    rw [ho'] at fh fm2 oab
    refine ⟨(o.1 * g, o.2 * g), fun g' b' j1 j2 p' p1 p2 => ?_⟩
    -- the same trial, the same place
    have eg : g' = g := by
      have := congrArg (fun t : Tr => t.1) (j2.symm.trans i2)
      have h3 : ((g' : Nat) : Int) = ((g : Nat) : Int) := this
      omega
    subst eg
    obtain ⟨D1, R1⟩ := itF_red hn hd0 hw p' _ hVg.1 Rg
    have ep : p' = p := by
      rw [i2] at p2
      have h3 := (hit_form hn D1 t1.1).1 p2
      exact rn_dist hn hd0 hw hVg.1 Rg hN p1 i3 (h3.symm.trans hform)
    subst ep
    refine ⟨?_, ⟨u', v', ?_, ?_⟩, ?_, ?_⟩
    · rw [etr]
      exact fh
    · rw [ezz]
      exact fm1
    · rw [ezz, fm2, Int.mul_comm o.1, Int.mul_comm o.2]
    · show ((o.1 * (g' : Int)).natAbs : Int) < pB 1024
      have hb := big2 hu.2.2.2.2.1
      rw [Int.natAbs_mul, Int.natAbs_natCast, oab.1]
      have q := Nat.mul_le_mul szm.1 f1.2
      generalize pB 1024 = PB at *
      omega
    · show ((o.2 * (g' : Int)).natAbs : Int) < pB 1024
      have hb := big2 hu.2.2.2.2.1
      rw [Int.natAbs_mul, Int.natAbs_natCast, oab.2]
      have q := Nat.mul_le_mul szm.2 f1.2
      generalize pB 1024 = PB at *
      omega
  · exact ⟨(0, 0), fun g b i1 i2 p i3 i4 => (c ⟨g, b, p, i1, i2, i3, i4⟩).elim⟩
/-- the house's part, for both signs of d -/
theorem slP_of (T : isTF d w n A nxt cls cnt nm) (hw : wdP d w) (hw4 : w ≤ 1024) {F : Fm} {e k c r i0 : Nat} {pl : Nat → Nat} (h : hnP d w n A cls cnt nm F e k c r i0 pl) {t u : Int} (hu : isUu d t u) {x : Int} (hx : inQ x) {zt : Tr → xI} (hzt : ∀ tr, tr ∈ tAll d w x → ∀ p, p < r → hitT (itF d w p (itF d w e F)) tr = true → tlP (itM d w p (itF d w e F) (itM d w e F (1, 0, 0, 1))) ((t - u * F.2.1).tdiv 2) (u * -F.2.2) (u * F.1) ((t + u * F.2.1).tdiv 2) tr (zt tr)) : (∃ (N : Nat) (zf : Nat → xI), rnP d w (itF d w e F) N ∧ slP d w F (itF d w e F) e N ((t - u * F.2.1).tdiv 2) (u * -F.2.2) (u * F.1) ((t + u * F.2.1).tdiv 2) x zf ∧ mtV d w (itF d w e F) (tAll d w x) N = (((tAll d w x).filter (metN d w (itF d w e F) r)).map (fun tr : Tr => ((tr.1, tr.2.1, zt tr) : Fam))).length ∧ ((((tAll d w x).filter (metN d w (itF d w e F) r)).map (fun tr : Tr => ((tr.1, tr.2.1, zt tr) : Fam))).length ≤ 256 → ∀ i fam, (((tAll d w x).filter (metN d w (itF d w e F) r)).map (fun tr : Tr => ((tr.1, tr.2.1, zt tr) : Fam)))[i]? = some fam → ∃ k t, (tAll d w x)[k]? = some t ∧ mtM d w (itF d w e F) (tAll d w x) N k = true ∧ mCt (mtM d w (itF d w e F) (tAll d w x) N) k = i ∧ fam = (t.1, t.2.1, zf k))) ∧ (((tAll d w x).filter (metN d w (itF d w e F) r)).map (fun tr : Tr => ((tr.1, tr.2.1, zt tr) : Fam))).length ≤ 8192 := by
  have hn := T.1.1
  have hdb := T.1.2.2.1
  have x0 := hx.1
  have hso := hnd_so T hw hw4 h hu
  have hmat := fun i hi hi2 => hnd_mat T hw hw4 h hu (i := i) hi hi2
  obtain ⟨hV, ho, ⟨e1, e2, e3, e4, e5, e6⟩, ⟨hVg, ok, rd⟩, -, hneg, -, hpos⟩ := h
  have len := tAll_len d w hx
  have flen : ((tAll d w x).filter (metN d w (itF d w e F) r)).length ≤ 8192 := Nat.le_trans (List.length_filter_le _ _) len
  have hV1 : mtV d w (itF d w e F) (tAll d w x) r = ((tAll d w x).filter (metN d w (itF d w e F) r)).length := by
    rw [mtV_eq, List.countP_eq_length_filter]
    intro tr htr i j hi hj h1 h2
    obtain ⟨g, b, hb, rfl⟩ := (tAll_mem x0).1 htr
    have tv := (trial_all hn hdb hw hw4 hx hb).1
    have q1 := (hit_form hn (it_d hn i hVg.1) tv.1).1 h1
    have q2 := (hit_form hn (it_d hn j hVg.1) tv.1).1 h2
    rcases id hw with ⟨hd, -⟩ | ⟨hd, hw'⟩
    · have := (hneg hd).2
      omega
    · exact rn_dist hn hd hw' hVg.1 ((rdF_red hn hd hw' hVg.1).1 rd) (hpos hd).1 hi hj (q1.symm.trans q2)
  have hMt : (fun i => mtM d w (itF d w e F) (tAll d w x) r i) = fun i => (tAll d w x)[i]?.any (metN d w (itF d w e F) r) := by
    funext i
    exact mtM_eq (tAll d w x) r i
  have hCt : ∀ k, mCt (mtM d w (itF d w e F) (tAll d w x) r) k = ((tAll d w x).take k).countP (metN d w (itF d w e F) r) := by
    intro k
    have : mCt (mtM d w (itF d w e F) (tAll d w x) r) k = mCt (fun i => (tAll d w x)[i]?.any (metN d w (itF d w e F) r)) k := by
      rw [← hMt]
    rw [this, mCt_eq]
  refine ⟨⟨r, fun k => zt ((tAll d w x)[k]?.getD (0, 0, 0, 0, 0, 0)), hso.2, ⟨okT_of hn hdb hw hw4 hx, ?_, ?_, fun _ => ⟨?_, ?_, ?_⟩⟩, ?_, ?_⟩, ?_⟩
  · intro tr htr
    obtain ⟨g, b, hb, rfl⟩ := (tAll_mem x0).1 htr
    obtain ⟨-, -, t3, -⟩ := trial_all hn hdb hw hw4 hx hb
    obtain ⟨c1, c2, -⟩ := t3 (lnF d w (frmO d (x.tdiv ((g * g : Nat) : Int)) b))
    have f1 := (tl_facts hx hb).1
    refine ⟨⟨?_, ?_⟩, ?_⟩
    · show -9223372036854775808 ≤ (itF d w _ (frmO d (x.tdiv ((g * g : Nat) : Int)) b)).1 ∧ (itF d w _ (frmO d (x.tdiv ((g * g : Nat) : Int)) b)).1 < 9223372036854775808
      omega
    · show -9223372036854775808 ≤ (itF d w _ (frmO d (x.tdiv ((g * g : Nat) : Int)) b)).2.1 ∧ (itF d w _ (frmO d (x.tdiv ((g * g : Nat) : Int)) b)).2.1 < 9223372036854775808
      omega
    · show -2147483648 ≤ ((g : Nat) : Int) ∧ ((g : Nat) : Int) < 2147483648
      omega
  · omega
  · rename_i h256
    rw [hCt, List.take_length, List.countP_eq_length_filter]
    omega
  · intro hd j hj
    have hb := e6 (e + j)
    have htn : nkE d w (itF d w j (itF d w e F)).2.1 (itF d w j (itF d w e F)).2.2 = tnF d w F (e + j) := (tnF_add d w F e j)
    rw [htn]
    obtain ⟨K, K1, K2⟩ := hmat j (by omega) (fun z => by omega)
    have hM : itM d w j (itF d w e F) (itM d w e F (1, 0, 0, 1)) = itM d w (e + j) F I2 := (itM_add d w e j F I2).symm
    rw [hM]
    exact ⟨bdM_of K1 hb (by have := hu.2.1; omega) hu.2.1 hu.2.2.2.2.1, by omega, by omega⟩
  · intro j hj kk tr h1 h2 h3
    show tlP _ _ _ _ _ tr (zt ((tAll d w x)[kk]?.getD (0, 0, 0, 0, 0, 0)))
    rw [h1]
    exact hzt tr (List.mem_of_getElem? h1) j hj h3
  · rw [List.length_map]
    exact hV1
  · intro _ i fam hfam
    rw [List.getElem?_map] at hfam
    cases hq : ((tAll d w x).filter (metN d w (itF d w e F) r))[i]? with
    | none =>
      rw [hq] at hfam
      cases hfam
    | some tr =>
      rw [hq] at hfam
      have hfam' : ((tr.1, tr.2.1, zt tr) : Fam) = fam := by simpa using hfam
      obtain ⟨kk, k1, k2, k3⟩ := flt_idx _ _ _ _ hq
      refine ⟨kk, tr, k1, ?_, ?_, ?_⟩
      · rw [mtM_eq, k1]
        exact k2
      · rw [hCt]
        exact k3
      · rw [← hfam']
        show (tr.1, tr.2.1, zt tr) = (tr.1, tr.2.1, zt ((tAll d w x)[kk]?.getD (0, 0, 0, 0, 0, 0)))
        rw [k1]
        rfl
  · rw [List.length_map]
    exact flen
end
