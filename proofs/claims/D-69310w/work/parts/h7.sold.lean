/-! solutions below 0: house and model -/
section
variable {d w : Int} {n : Nat} {A : Nat → pI} {nxt : Nat → Nat} {cls : Nat → Int} {cnt : Nat} {nm : Nat → Nat}
/-- what is so of a trial below 0 -/
def gdN (d w t u : Int) (F : Fm) (e : Nat) (x : Int) (tr : Tr) (z : xI) : Prop := ∀ g b : Nat, isTrl d x g b → tr = rc1 d w g (x.tdiv ((g * g : Nat) : Int)) b → hitT (itF d w e F) tr = true → tlP (itM d w e F I2) ((t - u * F.2.1).tdiv 2) (u * -F.2.2) (u * F.1) ((t + u * F.2.1).tdiv 2) tr z ∧ bsO F t u ((zT d w F e x g b).1 * (g : Int), (zT d w F e x g b).2 * (g : Int)) z
theorem gdN_ex (T : isTF d w n A nxt cls cnt nm) (hd : d < 0) (hw : wdP d w) (hw4 : w ≤ 1024) {F : Fm} {e k c r i0 : Nat} {pl : Nat → Nat} (h : hnP d w n A cls cnt nm F e k c r i0 pl) {t u : Int} (hun : unN d t u) (hu : isUu d t u) {x : Int} (hx : inQ x) (tr : Tr) : ∃ z, gdN d w t u F e x tr z := by
  have hn := T.1.1
  have hdb := T.1.2.2.1
  obtain ⟨hV, ho, ⟨e1, e2, e3, e4, e5, e6⟩, ⟨hVg, ok, rd⟩, -, -, -, -⟩ := h
  by_cases c : ∃ g b : Nat, isTrl d x g b ∧ tr = rc1 d w g (x.tdiv ((g * g : Nat) : Int)) b ∧ hitT (itF d w e F) tr = true
  · obtain ⟨g, b, i1, i2, i4⟩ := c
    obtain ⟨f1, f2, f3⟩ := tl_facts hx i1
    obtain ⟨t1, t2, t3, t4⟩ := trial_all hn hdb hw hw4 hx i1
    have i4' := i4
    rw [i2] at i4'
    have hform := (hit_form hn hVg.1 t1.1).1 i4'
    obtain ⟨N0, n1, n2, n3, n4⟩ := tr_mat T hw hw4 hV hx i1 hform
    have g0 : (0 : Int) < (g : Int) := by omega
    have hev : evF F ((zT d w F e x g b).1 * (g : Int)) ((zT d w F e x g b).2 * (g : Int)) = x := by
      rw [ev_scale, n4, ← Int.natCast_mul]
      exact (sq_dv i1.2.1).1.symm
    obtain ⟨m1, m2, z', h1, h2, h3, h4⟩ := houseN hd T.1.2.1 hV ho hun hu hx (z := ((zT d w F e x g b).1 * (g : Int), (zT d w F e x g b).2 * (g : Int))) hev
    obtain ⟨zz, hzz⟩ : ∃ zz, xyT d w (frmO d (x.tdiv ((g * g : Nat) : Int)) b) (lnF d w (frmO d (x.tdiv ((g * g : Nat) : Int)) b)) = zz := ⟨_, rfl⟩
    have zzb : zz.1.natAbs ≤ 34359738368 ∧ zz.2.natAbs ≤ 34359738368 := by
      obtain ⟨q1, q2, q3, q4⟩ := t4 _ (Nat.le_refl _)
      rw [← hzz]
      refine ⟨q4, ?_⟩
      show (-(itM d w _ _ I2).2.2.1).natAbs ≤ _
      rw [Int.natAbs_neg]
      exact q3
    have etr : tr = ((g : Int), (b : Int), (itF d w (lnF d w (frmO d (x.tdiv ((g * g : Nat) : Int)) b)) (frmO d (x.tdiv ((g * g : Nat) : Int)) b)).1, (itF d w (lnF d w (frmO d (x.tdiv ((g * g : Nat) : Int)) b)) (frmO d (x.tdiv ((g * g : Nat) : Int)) b)).2.1, zz.1, zz.2) := by
      rw [i2, ← hzz]
      exact rcT_eq d w g _ b _
    have hzT : ((zT d w F e x g b).1 * (g : Int), (zT d w F e x g b).2 * (g : Int)) = ((itM d w e F I2).1 * (zz.1 * (g : Int)) + (itM d w e F I2).2.1 * (zz.2 * (g : Int)), (itM d w e F I2).2.2.1 * (zz.1 * (g : Int)) + (itM d w e F I2).2.2.2 * (zz.2 * (g : Int))) := by
      have e7 : zT d w F e x g b = mv (itM d w e F I2) zz := by
        unfold zT
        rw [hzz]
      rw [e7]
      exact (mv_scale (itM d w e F I2) g zz).symm
    refine ⟨z', fun g' b' j1 j2 j3 => ?_⟩
    have eg : g' = g := by
      have := congrArg (fun t : Tr => t.1) (j2.symm.trans i2)
      have h3 : ((g' : Nat) : Int) = ((g : Nat) : Int) := this
      omega
    subst eg
    have eb : b' = b := by
      have := congrArg (fun t : Tr => t.2.1) (j2.symm.trans i2)
      have h3 : ((b' : Nat) : Int) = ((b : Nat) : Int) := this
      omega
    subst eb
    refine ⟨?_, h4⟩
    have hpar := par_unit (a := F.1) (b := F.2.1) (c := F.2.2) hV.1 hu.1
    have v1 : (t - u * F.2.1).tdiv 2 = (auM F t u).1 := by
      show _ = (t - F.2.1 * u) / 2
      rw [Int.mul_comm u]
      exact Int.tdiv_eq_ediv_of_dvd (Int.dvd_of_emod_eq_zero hpar)
    have v4 : (t + u * F.2.1).tdiv 2 = (auM F t u).2.2.2 := by
      show _ = (t + F.2.1 * u) / 2
      rw [Int.mul_comm u]
      exact Int.tdiv_eq_ediv_of_dvd (Int.dvd_of_emod_eq_zero (by omega))
    have v2 : u * -F.2.2 = (auM F t u).2.1 := Int.mul_comm _ _
    have v3 : u * F.1 = (auM F t u).2.2.1 := Int.mul_comm _ _
    rw [v1, v2, v3, v4, etr]
    have zb1 : (zz.1 * (g' : Int)).natAbs ≤ 34359738368000 := by
      rw [Int.natAbs_mul, Int.natAbs_natCast]
      have := Nat.mul_le_mul zzb.1 f1.2
      omega
    have zb2 : (zz.2 * (g' : Int)).natAbs ≤ 34359738368000 := by
      rw [Int.natAbs_mul, Int.natAbs_natCast]
      have := Nat.mul_le_mul zzb.2 f1.2
      omega
    refine ⟨⟨?_, ?_, ?_⟩, m1, m2, ?_, ?_, ?_⟩
    · show -9223372036854775808 < zz.1 * (g' : Int) ∧ zz.1 * (g' : Int) < 9223372036854775808
      omega
    · show -9223372036854775808 < zz.2 * (g' : Int) ∧ zz.2 * (g' : Int) < 9223372036854775808
      omega
    · show ((itM d w e F I2).1 * (zz.1 * (g' : Int))).natAbs + ((itM d w e F I2).2.1 * (zz.2 * (g' : Int))).natAbs < 4294967296 ^ 1024 ∧ ((itM d w e F I2).2.2.1 * (zz.1 * (g' : Int))).natAbs + ((itM d w e F I2).2.2.2 * (zz.2 * (g' : Int))).natAbs < 4294967296 ^ 1024
      obtain ⟨k1, k2, k3, k4⟩ := e5 e (Nat.le_refl _)
      have pr : ∀ x y : Int, x.natAbs ≤ 17592186044416 → y.natAbs ≤ 34359738368000 → (x * y).natAbs ≤ 604462909807314587353088000 := by
        intro x y hx hy
        rw [Int.natAbs_mul]
        exact Nat.le_trans (Nat.mul_le_mul hx hy) (by decide)
      have a1 := pr _ _ k1 zb1
      have a2 := pr _ _ k2 zb2
      have a3 := pr _ _ k3 zb1
      have a4 := pr _ _ k4 zb2
      have b6 := big_n6
      generalize (4294967296 ^ 1024 : Nat) = BB at *
      omega
    · show mvT _ _ _ _ m1 (trn ((itM d w e F I2).1 * (zz.1 * (g' : Int)) + (itM d w e F I2).2.1 * (zz.2 * (g' : Int)), (itM d w e F I2).2.2.1 * (zz.1 * (g' : Int)) + (itM d w e F I2).2.2.2 * (zz.2 * (g' : Int))))
      rw [← hzT]
      exact h1
    · show mvT _ _ _ _ m2 (itQ _ _ _ _ m1 (trn ((itM d w e F I2).1 * (zz.1 * (g' : Int)) + (itM d w e F I2).2.1 * (zz.2 * (g' : Int)), (itM d w e F I2).2.2.1 * (zz.1 * (g' : Int)) + (itM d w e F I2).2.2.2 * (zz.2 * (g' : Int)))))
      rw [← hzT]
      exact h2
    · show z' = itQ _ _ _ _ m2 (itQ _ _ _ _ m1 (trn ((itM d w e F I2).1 * (zz.1 * (g' : Int)) + (itM d w e F I2).2.1 * (zz.2 * (g' : Int)), (itM d w e F I2).2.2.1 * (zz.1 * (g' : Int)) + (itM d w e F I2).2.2.2 * (zz.2 * (g' : Int)))))
      rw [← hzT]
      exact h3
  · exact ⟨(0, 0), fun g b i1 i2 i4 => (c ⟨g, b, i1, i2, i4⟩).elim⟩
/-- the key of a solution -/
theorem key_ex {F : Fm} {x : Int} (x0 : x ≠ 0) : ∃ Kf : zI → pI, ∀ z : zI, evF F z.1 z.2 = x → ∀ x1 y1 q s : Int, z.1 = (Int.gcd z.1 z.2 : Nat) * x1 → z.2 = (Int.gcd z.1 z.2 : Nat) * y1 → x1 * s - y1 * q = 1 → Kf z = (((Int.gcd z.1 z.2 : Nat) : Int), rootE F x1 y1 q s % (2 * x.tdiv ((Int.gcd z.1 z.2 : Nat) * (Int.gcd z.1 z.2 : Nat)))) := by
  have h : ∀ z : zI, ∃ κ : pI, evF F z.1 z.2 = x → ∀ x1 y1 q s : Int, z.1 = (Int.gcd z.1 z.2 : Nat) * x1 → z.2 = (Int.gcd z.1 z.2 : Nat) * y1 → x1 * s - y1 * q = 1 → κ = (((Int.gcd z.1 z.2 : Nat) : Int), rootE F x1 y1 q s % (2 * x.tdiv ((Int.gcd z.1 z.2 : Nat) * (Int.gcd z.1 z.2 : Nat)))) := by
    intro z
    by_cases c : evF F z.1 z.2 = x
    · obtain ⟨g, x1, y1, q, s, g0, hg, hz, hdet, hval⟩ := sol_parts x0 c
      refine ⟨(((Int.gcd z.1 z.2 : Nat) : Int), rootE F x1 y1 q s % (2 * x.tdiv ((Int.gcd z.1 z.2 : Nat) * (Int.gcd z.1 z.2 : Nat)))), fun _ x1' y1' q' s' h1 h2 h3 => ?_⟩
      have gp : (0 : Int) < (g : Int) := by omega
      have gg : (g : Int) * g ≠ 0 := by
        have := Int.mul_pos gp gp
        omega
      rw [hg] at h1 h2 ⊢
      have e1 : x1' = x1 := by
        have : z.1 = (g : Int) * x1 := congrArg Prod.fst hz
        exact Int.eq_of_mul_eq_mul_left (by omega) (h1.symm.trans this)
      have e2 : y1' = y1 := by
        have : z.2 = (g : Int) * y1 := congrArg Prod.snd hz
        exact Int.eq_of_mul_eq_mul_left (by omega) (h2.symm.trans this)
      subst e1
      subst e2
      have e3 : x.tdiv ((g : Int) * g) = evF F x1' y1' := by
        rw [hval, Int.mul_tdiv_cancel_left _ gg]
      rw [e3, root_mod hdet h3]
    · exact ⟨(0, 0), fun q => (c q).elim⟩
  exact Classical.axiomOfChoice h
end
