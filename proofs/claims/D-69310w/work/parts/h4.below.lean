/-! below 0: trials and solutions -/
section
variable {d w : Int} {n : Nat} {A : Nat → pI} {nxt : Nat → Nat} {cls : Nat → Int} {cnt : Nat} {nm : Nat → Nat}
/-- the pair that a trial gives -/
noncomputable def zT (d w : Int) (F : Fm) (e : Nat) (x : Int) (g b : Nat) : xI := mv (itM d w e F I2) (xyT d w (frmO d (x.tdiv ((g * g : Nat) : Int)) b) (lnF d w (frmO d (x.tdiv ((g * g : Nat) : Int)) b)))
/-- the matrix of a trial that is met -/
theorem tr_mat (T : isTF d w n A nxt cls cnt nm) (hw : wdP d w) (hw4 : w ≤ 1024) {F : Fm} {e : Nat} (hV : Vld d F) {x : Int} (hx : inQ x) {g b : Nat} (h : isTrl d x g b) (hm : itF d w (lnF d w (frmO d (x.tdiv ((g * g : Nat) : Int)) b)) (frmO d (x.tdiv ((g * g : Nat) : Int)) b) = itF d w e F) : ∃ N : mxI, dM N = 1 ∧ (N.1, N.2.2.1) = zT d w F e x g b ∧ acM F N = frmO d (x.tdiv ((g * g : Nat) : Int)) b ∧ evF F (zT d w F e x g b).1 (zT d w F e x g b).2 = x.tdiv ((g * g : Nat) : Int) := by
  have hn := T.1.1
  obtain ⟨t1, t2, t3, t4⟩ := trial_all hn T.1.2.2.1 hw hw4 hx h
  unfold zT
  obtain ⟨φ, hφ⟩ : ∃ φ, frmO d (x.tdiv ((g * g : Nat) : Int)) b = φ := ⟨_, rfl⟩
  have hφ1 : φ.1 = x.tdiv ((g * g : Nat) : Int) := by rw [← hφ]; rfl
  rw [hφ] at t1 t2 hm ⊢
  obtain ⟨L, hL⟩ : ∃ L, lnF d w φ = L := ⟨_, rfl⟩
  rw [hL] at hm ⊢
  have k1 := itM_det (d := d) (w := w) φ L
  have k2 := itM_ac (w := w) hn t1.1 L
  have k3 := itM_det (d := d) (w := w) F e
  have k4 := itM_ac (w := w) hn hV.1 e
  have kz := xyT_mv d w φ L
  have hac : acM F (mm (itM d w e F I2) (ivM (itM d w L φ I2))) = φ := by
    rw [acM_mm, k4, ← hm, ← k2]
    exact acM_inv k1
  have hcol : ((mm (itM d w e F I2) (ivM (itM d w L φ I2))).1, (mm (itM d w e F I2) (ivM (itM d w L φ I2))).2.2.1) = mv (itM d w e F I2) (xyT d w φ L) := by
    refine Prod.ext ?_ ?_ <;> (simp only [mm, mv, ivM, xyT])
  refine ⟨mm (itM d w e F I2) (ivM (itM d w L φ I2)), by rw [dM_mm, k3, dM_iv, k1]; rfl, hcol, hac, ?_⟩
  rw [← hcol]
  have : (acM F (mm (itM d w e F I2) (ivM (itM d w L φ I2)))).1 = φ.1 := by rw [hac]
  rw [← hφ1, ← this]
  rfl
theorem col_gcd {N : mxI} (h : dM N = 1) : Int.gcd N.1 N.2.2.1 = 1 := by
  unfold dM at h
  have h1 : ((Int.gcd N.1 N.2.2.1 : Nat) : Int) ∣ 1 := by
    rw [← h]
    refine Int.dvd_sub (Int.dvd_mul_of_dvd_left (Int.gcd_dvd_left _ _)) ?_
    exact Int.dvd_mul_of_dvd_right (Int.gcd_dvd_right _ _)
  have h2 := Int.le_of_dvd (by decide) h1
  have h3 : Int.gcd N.1 N.2.2.1 ≠ 0 := fun z => by
    rw [z] at h1
    obtain ⟨k, hk⟩ := h1
    have : ((0 : Nat) : Int) * k = 0 := Int.zero_mul k
    omega
  omega
/-- scaling of orbits -/
theorem inO_scale {F : Fm} {t u g : Int} (hg : 0 < g) (z w : xI) : inO F t u z w → inO F t u (z.1 * g, z.2 * g) (w.1 * g, w.2 * g) := by
  unfold inO
  rintro (q | q | q) <;> rw [q]
  · left
    exact (trn_scale hg z).symm
  · right
    left
    rw [mv_scale]
    exact (trn_scale hg _).symm
  · right
    right
    rw [mv_scale, mv_scale]
    exact (trn_scale hg _).symm
/-- every solution comes of a trial that is met -/
theorem sol_trial (T : isTF d w n A nxt cls cnt nm) (hd : d < 0) (hw : wdP d w) (hw4 : w ≤ 1024) {F : Fm} {e : Nat} (hV : Vld d F) (hVg : Vld d (itF d w e F)) (rd : rdF d w (itF d w e F) = true) {x : Int} (hx : inQ x) {z : xI} (hz : evF F z.1 z.2 = x) {g : Nat} {x1 y1 q s : Int} (g0 : 0 < g) (hzg : z = ((g : Int) * x1, (g : Int) * y1)) (hdet : x1 * s - y1 * q = 1) (hval : x = ((g : Int) * g) * evF F x1 y1) : 0 < evF F x1 y1 ∧ x.tdiv ((g * g : Nat) : Int) = evF F x1 y1 ∧ isTrl d x g (rootE F x1 y1 q s % (2 * evF F x1 y1)).toNat ∧ itF d w (lnF d w (frmO d (x.tdiv ((g * g : Nat) : Int)) (rootE F x1 y1 q s % (2 * evF F x1 y1)).toNat)) (frmO d (x.tdiv ((g * g : Nat) : Int)) (rootE F x1 y1 q s % (2 * evF F x1 y1)).toNat) = itF d w e F ∧ ∃ N : mxI, dM N = 1 ∧ N.1 = x1 ∧ N.2.2.1 = y1 ∧ acM F N = frmO d (x.tdiv ((g * g : Nat) : Int)) (rootE F x1 y1 q s % (2 * evF F x1 y1)).toNat := by
  have hn := T.1.1
  have pa := hV.2.2 hd
  have hxy : x1 ≠ 0 ∨ y1 ≠ 0 := by
    by_cases c : x1 = 0
    · right
      intro c2
      rw [c, c2, Int.zero_mul, Int.zero_mul] at hdet
      omega
    · exact Or.inl c
  have m0 := def_pos hd hV.1 pa hxy
  obtain ⟨m, hm⟩ : ∃ m, evF F x1 y1 = m := ⟨_, rfl⟩
  obtain ⟨β, hβ⟩ : ∃ β, rootE F x1 y1 q s = β := ⟨_, rfl⟩
  rw [hm] at m0 hval ⊢
  rw [hβ]
  have gg : ((g * g : Nat) : Int) = (g : Int) * g := Int.natCast_mul _ _
  have gpos : (0 : Int) < (g : Int) * g := Int.mul_pos (by omega) (by omega)
  have htd : x.tdiv ((g * g : Nat) : Int) = m := by
    rw [gg, hval, Int.mul_tdiv_cancel_left _ (by omega)]
  have htm : x.tmod ((g * g : Nat) : Int) = 0 := by
    rw [gg, hval, Int.mul_tmod_right]
  have r0 : 0 ≤ β % (2 * m) := Int.emod_nonneg _ (by omega)
  have r1 : β % (2 * m) < 2 * m := Int.emod_lt_of_pos _ (by omega)
  have rb : (((β % (2 * m)).toNat : Nat) : Int) = β % (2 * m) := Int.toNat_of_nonneg r0
  -- the matrix
  have hk : β = 2 * m * (β / (2 * m)) + β % (2 * m) := (Int.mul_ediv_add_emod β (2 * m)).symm
  generalize β / (2 * m) = k at hk
  have hN1 : dM (x1, q - k * x1, y1, s - k * y1) = 1 := by
    unfold dM
    simp only
    rw [← hdet]
    grind
  have hN2 : (acM F (x1, q - k * x1, y1, s - k * y1)).1 = m := by
    rw [← hm]
    rfl
  have hN3 : (acM F (x1, q - k * x1, y1, s - k * y1)).2.1 = β % (2 * m) := by
    have e1 : (acM F (x1, q - k * x1, y1, s - k * y1)).2.1 = rootE F x1 y1 q s - 2 * k * evF F x1 y1 := by
      simp only [acM, acF, rootE, evF]
      grind
    rw [e1, hβ, hm]
    have e2 : 2 * k * m = 2 * m * k := by grind
    omega
  have hND : dF (acM F (x1, q - k * x1, y1, s - k * y1)) = d := by
    rw [acM, dF_acF _ _ _ _ _ hN1]
    exact hV.1
  have hφ : acM F (x1, q - k * x1, y1, s - k * y1) = frmO d m (β % (2 * m)).toNat := by
    obtain ⟨f1, f2⟩ := fmP_of hND (by rw [hN2]; omega)
    rw [hN2, hN3] at f1
    rw [← f1, ← rb]
    rfl
  have hE : Eqv F (frmO d m (β % (2 * m)).toNat) := ⟨_, _, _, _, hN1, hφ.symm⟩
  have hVφ := vld_eqv hE hV
  have hcp : cpF (frmO d m (β % (2 * m)).toNat) = true := by
    unfold cpF
    rw [decide_eq_true_eq]
    exact (prim_iff _).1 hVφ.2.1
  have hrt : rtD (4 * m.natAbs) d (β % (2 * m)).toNat := by
    have hD2 : (((β % (2 * m)).toNat : Nat) : Int) * ((β % (2 * m)).toNat : Nat) - 4 * m * (frmO d m (β % (2 * m)).toNat).2.2 = d := hVφ.1
    refine ⟨(frmO d m (β % (2 * m)).toNat).2.2, ?_⟩
    have e1 : ((4 * m.natAbs : Nat) : Int) = 4 * m := by omega
    rw [e1]
    omega
  have isT : isTrl d x g (β % (2 * m)).toNat := by
    refine ⟨g0, htm, fun q' => ?_, ?_, ?_⟩
    · have := Int.mul_pos gpos m0
      omega
    · rw [htd]
      exact rts_mem.2 ⟨by omega, hrt⟩
    · rw [htd]
      exact hcp
  refine ⟨m0, htd, isT, ?_, (x1, q - k * x1, y1, s - k * y1), hN1, rfl, rfl, ?_⟩
  · obtain ⟨t1, t2, t3, t4⟩ := trial_all hn T.1.2.2.1 hw hw4 hx isT
    rw [htd] at t1 t2 ⊢
    obtain ⟨ok, rd'⟩ := trm_rd _ _ t2
    have h1 := (it_eqv (w := w) hn (lnF d w (frmO d m (β % (2 * m)).toNat)) _ t1.1).1
    have h2 := (it_eqv (w := w) hn e F hV.1).1
    have hVi := it_vld (w := w) hn (lnF d w (frmO d m (β % (2 * m)).toNat)) _ t1
    exact redN_all (rdN_pos hd hVi.1 rd') (rdN_pos hd hVg.1 rd) (eqv_trans (eqv_symm h1) (eqv_trans (eqv_symm hE) h2))
  · rw [htd]
    exact hφ
/-- the orbit of a solution is that of its trial -/
theorem sol_orbit (T : isTF d w n A nxt cls cnt nm) (hd : d < 0) (hw : wdP d w) (hw4 : w ≤ 1024) {F : Fm} {e : Nat} (hV : Vld d F) {t u : Int} (hun : unN d t u) {x : Int} (hx : inQ x) {g b : Nat} (h : isTrl d x g b) (hm : itF d w (lnF d w (frmO d (x.tdiv ((g * g : Nat) : Int)) b)) (frmO d (x.tdiv ((g * g : Nat) : Int)) b) = itF d w e F) {x1 y1 : Int} {N : mxI} (hN : dM N = 1) (hN1 : N.1 = x1) (hN2 : N.2.2.1 = y1) (hac : acM F N = frmO d (x.tdiv ((g * g : Nat) : Int)) b) (w' : xI) : inO F t u (x1 * (g : Int), y1 * (g : Int)) w' ↔ inO F t u ((zT d w F e x g b).1 * (g : Int), (zT d w F e x g b).2 * (g : Int)) w' := by
  obtain ⟨N0, n1, n2, n3, n4⟩ := tr_mat T hw hw4 hV hx h hm
  have hW : dM (mm N (ivM N0)) = 1 := by rw [dM_mm, hN, dM_iv, n1]; rfl
  have hWac : acM F (mm N (ivM N0)) = F := by
    rw [acM_mm, hac, ← n3]
    exact acM_inv n1
  have hcol : mv (mm N (ivM N0)) (N0.1, N0.2.2.1) = (x1, y1) := by
    unfold dM at n1
    rw [mv_mm]
    have : mv (ivM N0) (N0.1, N0.2.2.1) = (1, 0) := by
      refine Prod.ext ?_ ?_ <;> (simp only [mv, ivM]; grind)
    rw [this, ← hN1, ← hN2]
    refine Prod.ext ?_ ?_ <;> (simp only [mv]; grind)
  have hg : (0 : Int) < (g : Int) := by
    have := h.1
    omega
  have hz0 : (((zT d w F e x g b).1 * (g : Int), (zT d w F e x g b).2 * (g : Int)) : xI) ≠ (0, 0) := by
    intro q
    have q1 : (zT d w F e x g b).1 * (g : Int) = 0 := congrArg Prod.fst q
    have q2 : (zT d w F e x g b).2 * (g : Int) = 0 := congrArg Prod.snd q
    have z1 : (zT d w F e x g b).1 = 0 := by rcases Int.mul_eq_zero.1 q1 with y | y <;> omega
    have z2 : (zT d w F e x g b).2 = 0 := by rcases Int.mul_eq_zero.1 q2 with y | y <;> omega
    have m0 := (tl_facts hx h).2.1
    exact ne_of_ev m0 n4 (Prod.ext z1 z2)
  have key := autN hd T.1.2.1 T.1.1 hV hun hW hWac hz0 w'
  rw [mv_scale, ← n2, hcol] at key
  rw [← n2]
  exact key
end
