/-! a family above 0: all that is to be known -/
section
variable {d w : Int} {n : Nat} {A : Nat → pI} {nxt : Nat → Nat} {cls : Nat → Int} {cnt : Nat} {nm : Nat → Nat}
theorem pow_grow {T : Nat} (hT : 3 ≤ T) {y : Nat} (hy : y ≤ 2475880078570760549798248448 * (T + 1)) : y < (T - 1) ^ 94 := by
  have h1 : 2 ^ 93 ≤ (T - 1) ^ 93 := Nat.pow_le_pow_left (by omega) 93
  have e : (T - 1) ^ 94 = (T - 1) ^ 93 * (T - 1) := Nat.pow_succ ..
  have h2 : 2 ^ 93 * (T - 1) ≤ (T - 1) ^ 93 * (T - 1) := Nat.mul_le_mul_right _ h1
  have e2 : (2 : Nat) ^ 93 = 9903520314283042199192993792 := by decide
  rw [e2] at h2
  rw [e]
  omega
/-- the family's base, its best place, and sizes -/
theorem fam_core (T : isTF d w n A nxt cls cnt nm) (hd0 : 0 < d) (hw : isWd d w) (hw4 : w ≤ 1024) {F : Fm} {e k c r i0 : Nat} {pl : Nat → Nat} (h : hnP d w n A cls cnt nm F e k c r i0 pl) {t u : Int} (hu : isUu d t u) {m : Int} (hm : m ≠ 0 ∧ m.natAbs ≤ 1000000) {zz : xI} (hz : zz.1.natAbs ≤ 34359738368 ∧ zz.2.natAbs ≤ 34359738368) {p : Nat} (hp : p < r) (hev : evF (itF d w p (itF d w e F)) zz.1 zz.2 = m) {s : Nat} (hs : (s : Int) = t + 1) : ∃ ms : Int, (∀ j, btZ (trn (orb (auM F t u) (mv (mm (itM d w e F I2) (itM d w p (itF d w e F) I2)) zz) (j + 1))) (trn (orb (auM F t u) (mv (mm (itM d w e F I2) (itM d w p (itF d w e F) I2)) zz) j)) ↔ j < ms) ∧ (∀ j0 : Int, j0 = 0 ∨ j0 = -1 → (-94 ≤ j0 - ms ∧ j0 - ms ≤ 94) ∧ ∀ j, (j0 ≤ j ∧ j ≤ ms) ∨ (ms ≤ j ∧ j ≤ j0) → (orb (auM F t u) (mv (mm (itM d w e F I2) (itM d w p (itF d w e F) I2)) zz) j).1.natAbs ≤ 10633823966279326983230456482242756608 * s ∧ (orb (auM F t u) (mv (mm (itM d w e F I2) (itM d w p (itF d w e F) I2)) zz) j).2.natAbs ≤ 10633823966279326983230456482242756608 * s) ∧ evF F (mv (mm (itM d w e F I2) (itM d w p (itF d w e F) I2)) zz).1 (mv (mm (itM d w e F I2) (itM d w p (itF d w e F) I2)) zz).2 = m := by
  have hn := T.1.1
  have hmat := hnd_mat T (Or.inr ⟨hd0, hw⟩) hw4 h hu (i := p) (by omega) (fun z => by omega)
  obtain ⟨hV, ho, ⟨e1, e2, e3, e4, e5, e6⟩, ⟨hVg, ok, rd⟩, -, -, -, hpos⟩ := h
  obtain ⟨hN, -⟩ := hpos hd0
  have hpu := hu.2.2.2.2.2 hd0
  have Rg := (rdF_red hn hd0 hw hVg.1).1 rd
  obtain ⟨K, K1, K2⟩ := hmat
  rw [itM_add, itM_mm] at K1
  have hev' : evF F (mv (mm (itM d w e F I2) (itM d w p (itF d w e F) I2)) zz).1 (mv (mm (itM d w e F I2) (itM d w p (itF d w e F) I2)) zz).2 = m := by
    rw [← evM, acM_mm, itM_ac hn hV.1, itM_ac hn hVg.1]
    exact hev
  have hne := ne_of_ev hm.1 hev'
  have hdV := auM_det (f := F) hV.1 hpu.2.2.1
  have ht3 := (pu_lt (d5 hn T.1.2.1 hd0 hw).1 hpu).2.2
  have hz0 := mv_bd K1 hz
  obtain ⟨ζ, hζ⟩ : ∃ ζ, mv (mm (itM d w e F I2) (itM d w p (itF d w e F) I2)) zz = ζ := ⟨_, rfl⟩
  -- the place before
  have hm1 : (orb (auM F t u) ζ (-1)).2.natAbs ≤ 2475880078570760549798248448 * s := by
    obtain ⟨ε, hε, hb⟩ := orb_both hn hd0 hw (p := p) hV.1 rfl hVg Rg hN hpu zz hne (-1)
    have eo : orb (auM F t u) ζ (-1) = mv (mm (zpM (auM F t u) (-1)) (mm (itM d w e F I2) (itM d w p (itF d w e F) I2))) zz := by
      rw [mv_mm, hζ]
      rfl
    have e2' : itM d w r (itF d w e F) I2 = mm (itM d w p (itF d w e F) I2) (itM d w (r - p) (itF d w p (itF d w e F)) I2) := by
      conv => lhs; rw [show r = p + (r - p) by omega]
      rw [itM_add, itM_mm]
    have e3' : mm (zpM (itM d w r (itF d w e F) I2) (-1)) (itM d w p (itF d w e F) I2) = ivM (itM d w (r - p) (itF d w p (itF d w e F)) I2) := by
      show mm (mm (ivM (itM d w r (itF d w e F) I2)) I2) (itM d w p (itF d w e F) I2) = _
      rw [mm_one]
      conv => lhs; rw [e2']
      rw [iv_mul, mm_assoc, iv_mm (itM_det _ p), mm_one]
    rw [e3'] at hb
    obtain ⟨Dp, Rp⟩ := itF_red hn hd0 hw p _ hVg.1 Rg
    have hVp := it_vld (w := w) hn p _ hVg
    obtain ⟨b1, b2, b3, b4⟩ := ring_bd hn T.1.2.1 hd0 hw hw4 hVp Rp hpu (rn_it hn hd0 hw hVg.1 Rg hN p) (i := r - p) (by omega)
    have hb1 : bdE (ivM (itM d w (r - p) (itF d w p (itF d w e F)) I2)) (1024 * s) := bdE_iv ⟨by omega, by omega, by omega, by omega⟩
    have hb2 := mv_bd (mm_bd (e5 e (Nat.le_refl _)) hb1) hz
    rw [hb] at hb2
    have hb3 : (mv (mm (zpM (auM F t u) (-1)) (mm (itM d w e F I2) (itM d w p (itF d w e F) I2))) zz).2.natAbs = (mv (sgM ε (mm (zpM (auM F t u) (-1)) (mm (itM d w e F I2) (itM d w p (itF d w e F) I2)))) zz).2.natAbs := by
      generalize mm (zpM (auM F t u) (-1)) (mm (itM d w e F I2) (itM d w p (itF d w e F) I2)) = q
      have : (mv (sgM ε q) zz).2 = ε * (mv q zz).2 := by simp only [mv, sgM]; grind
      rw [this]
      rcases hε with rfl | rfl <;> omega
    rw [eo, hb3]
    refine Nat.le_trans hb2.2 ?_
    omega
  have h00 : (orb (auM F t u) ζ 0).2.natAbs ≤ 2475880078570760549798248448 * s := by
    have : orb (auM F t u) ζ 0 = ζ := by
      unfold orb
      rw [zpM_zero, mv_one]
    rw [this, ← hζ]
    refine Nat.le_trans hz0.2 ?_
    have : K * 34359738368 ≤ (36028797018963968 * s) * 34359738368 := Nat.mul_le_mul_right _ (by omega)
    omega
  rw [hζ] at hne hev' ⊢
  have cons : ∀ j, ¬ ((orb (auM F t u) ζ j).2 = 0 ∧ (orb (auM F t u) ζ (j + 1)).2 = 0) := by
    rintro j ⟨q1, q2⟩
    rw [orb_suc hdV] at q2
    have q3 : F.1 * u * (orb (auM F t u) ζ j).1 + (t + F.2.1 * u) / 2 * (orb (auM F t u) ζ j).2 = 0 := q2
    rw [q1, Int.mul_zero, Int.add_zero] at q3
    have a0 := nsq_1 hn hV.1
    have u0 := hpu.2.1
    rcases Int.mul_eq_zero.1 q3 with q | q
    · rcases Int.mul_eq_zero.1 q with q' | q'
      · exact a0 q'
      · omega
    · exact orb_ne hdV hne j (Prod.ext q q1)
  have hTt : (auM F t u).1 + (auM F t u).2.2.2 = ((t.toNat : Nat) : Int) := by
    obtain ⟨p', s', h1, h2, h3, h4, h5, h6, h7⟩ := half_unit (a := F.1) (b := F.2.1) (c := F.2.2) hV.1 hpu.2.2.1
    show (t - F.2.1 * u) / 2 + (t + F.2.1 * u) / 2 = _
    rw [h1, h2]
    omega
  obtain ⟨ms, u1, u2, u3, u4⟩ := uni hdV hne hTt (by omega) cons
  refine ⟨ms, u1, fun j0 hj0 => ?_, hev'⟩
  have hy : (orb (auM F t u) ζ j0).2.natAbs ≤ 2475880078570760549798248448 * s := by
    rcases hj0 with rfl | rfl
    · exact h00
    · exact hm1
  have far := uni_far (k := 94) (by omega) u2 (i := j0) (pow_grow (by omega) (by
    have : s = t.toNat + 1 := by omega
    rw [← this]
    exact hy))
  refine ⟨by omega, fun j hj => ?_⟩
  have hyj := Nat.le_trans (uni_le u3 u4 hj) hy
  have hxj := x_by_y (nsq_1 hn hV.1) ((orb_ev hV.1 hpu.2.2.1 ζ j).trans hev')
  obtain ⟨o1, o2, o3⟩ := ho
  have q : (F.2.1.natAbs + F.2.2.natAbs + 1) * (orb (auM F t u) ζ j).2.natAbs ≤ 2147483649 * (2475880078570760549798248448 * s) := Nat.mul_le_mul (by omega) hyj
  have hm2 := hm.2
  exact ⟨by omega, by omega⟩
/-- what the house finds -/
theorem fam_house (T : isTF d w n A nxt cls cnt nm) (hd0 : 0 < d) (hw : isWd d w) (hw4 : w ≤ 1024) {F : Fm} {e k c r i0 : Nat} {pl : Nat → Nat} (h : hnP d w n A cls cnt nm F e k c r i0 pl) {t u : Int} (hu : isUu d t u) {m : Int} (hm : m ≠ 0 ∧ m.natAbs ≤ 1000000) {zz : xI} (hz : zz.1.natAbs ≤ 34359738368 ∧ zz.2.natAbs ≤ 34359738368) {p : Nat} (hp : p < r) (hev : evF (itF d w p (itF d w e F)) zz.1 zz.2 = m) {ms : Int} (hms : ∀ j, btZ (trn (orb (auM F t u) (mv (mm (itM d w e F I2) (itM d w p (itF d w e F) I2)) zz) (j + 1))) (trn (orb (auM F t u) (mv (mm (itM d w e F I2) (itM d w p (itF d w e F) I2)) zz) j)) ↔ j < ms) (hsz : ∀ j : Int, (0 ≤ j ∧ j ≤ ms) ∨ (ms ≤ j ∧ j ≤ 0) → (orb (auM F t u) (mv (mm (itM d w e F I2) (itM d w p (itF d w e F) I2)) zz) j).1.natAbs ≤ 10633823966279326983230456482242756608 * (t + 1).toNat ∧ (orb (auM F t u) (mv (mm (itM d w e F I2) (itM d w p (itF d w e F) I2)) zz) j).2.natAbs ≤ 10633823966279326983230456482242756608 * (t + 1).toNat) {g : Nat} (hg : 0 < g ∧ g ≤ 1000) (b A' B' : Int) : tlP (itM d w p (itF d w e F) (itM d w e F (1, 0, 0, 1))) ((t - u * F.2.1).tdiv 2) (u * -F.2.2) (u * F.1) ((t + u * F.2.1).tdiv 2) ((g : Int), b, A', B', zz.1, zz.2) ((trn (orb (auM F t u) (mv (mm (itM d w e F I2) (itM d w p (itF d w e F) I2)) zz) ms)).1 * g, (trn (orb (auM F t u) (mv (mm (itM d w e F I2) (itM d w p (itF d w e F) I2)) zz) ms)).2 * g) := by
  have hn := T.1.1
  have hmat := hnd_mat T (Or.inr ⟨hd0, hw⟩) hw4 h hu (i := p) (by omega) (fun z => by omega)
  obtain ⟨hV, ho, ⟨e1, e2, e3, e4, e5, e6⟩, ⟨hVg, ok, rd⟩, -, -, -, hpos⟩ := h
  have hpu := hu.2.2.2.2.2 hd0
  obtain ⟨K, K1, K2⟩ := hmat
  rw [itM_add, itM_mm] at K1
  have hpar := par_unit (a := F.1) (b := F.2.1) (c := F.2.2) hV.1 hu.1
  have v1 : (t - u * F.2.1).tdiv 2 = (auM F t u).1 := by
    show _ = (t - F.2.1 * u) / 2
    rw [Int.mul_comm u]
    exact Int.tdiv_eq_ediv_of_dvd (Int.dvd_of_emod_eq_zero hpar)
  have v4 : (t + u * F.2.1).tdiv 2 = (auM F t u).2.2.2 := by
    show _ = (t + F.2.1 * u) / 2
    rw [Int.mul_comm u]
    exact Int.tdiv_eq_ediv_of_dvd (Int.dvd_of_emod_eq_zero (by omega))
  have v2 : u * -F.2.2 = (auM F t u).2.1 := Int.mul_comm _ _
  have v3 : u * F.1 = (auM F t u).2.2.1 := Int.mul_comm _ _
  have hM : itM d w p (itF d w e F) (itM d w e F (1, 0, 0, 1)) = mm (itM d w e F I2) (itM d w p (itF d w e F) I2) := itM_mm _ _ _ _ _
  rw [v1, v2, v3, v4, hM]
  have hev' : evF F (mv (mm (itM d w e F I2) (itM d w p (itF d w e F) I2)) zz).1 (mv (mm (itM d w e F I2) (itM d w p (itF d w e F) I2)) zz).2 = m := by
    rw [← evM, acM_mm, itM_ac hn hV.1, itM_ac hn hVg.1]
    exact hev
  have hne := ne_of_ev hm.1 hev'
  have hdV := auM_det (f := F) hV.1 hpu.2.2.1
  have g0 : (0 : Int) < (g : Int) := by omega
  have zb1 : (zz.1 * (g : Int)).natAbs ≤ 34359738368000 := by
    rw [Int.natAbs_mul, Int.natAbs_natCast]
    have := Nat.mul_le_mul hz.1 hg.2
    omega
  have zb2 : (zz.2 * (g : Int)).natAbs ≤ 34359738368000 := by
    rw [Int.natAbs_mul, Int.natAbs_natCast]
    have := Nat.mul_le_mul hz.2 hg.2
    omega
  obtain ⟨Mm, hMm⟩ : ∃ Mm, mm (itM d w e F I2) (itM d w p (itF d w e F) I2) = Mm := ⟨_, rfl⟩
  rw [hMm] at K1 hms hsz hne ⊢
  obtain ⟨sN, hsN⟩ : ∃ sN : Nat, (t + 1).toNat = sN := ⟨_, rfl⟩
  rw [hsN] at hsz
  have hsN' : (sN : Int) = t + 1 := by
    have := hpu.1
    omega
  have hsb : sN ≤ 2 ^ 15700 := by
    have h1 := hu.2.2.2.2.1
    have h2 := two_cast 15700
    rw [← h2] at h1
    generalize (2 ^ 15700 : Nat) = X at *
    omega
  have s1 : 1 ≤ sN := by
    have := hpu.1
    omega
  have hss : sN * 1 ≤ sN * sN := Nat.mul_le_mul_left _ s1
  have b4 := big4 hsb
  -- the step's start
  have hz0 : (Mm.1 * (zz.1 * (g : Int)) + Mm.2.1 * (zz.2 * (g : Int)), Mm.2.2.1 * (zz.1 * (g : Int)) + Mm.2.2.2 * (zz.2 * (g : Int))) = ((mv Mm zz).1 * (g : Int), (mv Mm zz).2 * (g : Int)) := mv_scale Mm g zz
  have hne2 : ((mv Mm zz).1 * (g : Int), (mv Mm zz).2 * (g : Int)) ≠ (0, 0) := by
    rw [← mv_scale]
    refine mv_ne ?_ (fun q => ?_)
    · rw [← hMm, dM_mm, itM_det, itM_det]
      rfl
    · have q1 : zz.1 * (g : Int) = 0 := congrArg Prod.fst q
      have q2 : zz.2 * (g : Int) = 0 := congrArg Prod.snd q
      refine hne ?_
      have z1 : zz.1 = 0 := by rcases Int.mul_eq_zero.1 q1 with y | y <;> omega
      have z2 : zz.2 = 0 := by rcases Int.mul_eq_zero.1 q2 with y | y <;> omega
      rw [show zz = (0, 0) from Prod.ext z1 z2, mv_zero]
  have stop := mv_stop hdV hne2 (ms := ms) (fun j => by
    rw [orb_scale, orb_scale, trn_scale g0, trn_scale g0, bt_scale g0]
    exact hms j) (fun j hj => by
    have hsz' := hsz j (by omega)
    have vb := au_bdE hV.1 hu hsN' ho
    have t1 := trn_abs (orb (auM F t u) ((mv Mm zz).1 * (g : Int), (mv Mm zz).2 * (g : Int)) j)
    rw [orb_scale] at t1 ⊢
    simp only [Int.natAbs_mul, Int.natAbs_natCast] at t1
    have c1 : (orb (auM F t u) (mv Mm zz) j).1.natAbs * g ≤ 10633823966279326983230456482242756608 * sN * 1000 := Nat.mul_le_mul hsz'.1 hg.2
    have c2 : (orb (auM F t u) (mv Mm zz) j).2.natAbs * g ≤ 10633823966279326983230456482242756608 * sN * 1000 := Nat.mul_le_mul hsz'.2 hg.2
    rw [← t1.1] at c1
    rw [← t1.2] at c2
    generalize trn ((orb (auM F t u) (mv Mm zz) j).1 * (g : Int), (orb (auM F t u) (mv Mm zz) j).2 * (g : Int)) = o at *
    obtain ⟨w1, w2, w3, w4⟩ := vb
    generalize auM F t u = V at *
    have pr : ∀ x y : Int, x.natAbs ≤ 2147483648 * sN → y.natAbs ≤ 10633823966279326983230456482242756608 * sN * 1000 → (x * y).natAbs ≤ 22835963083295358096932575511191922182123945984 * 1000 * (sN * sN) := by
      intro x y hx hy
      rw [Int.natAbs_mul]
      refine Nat.le_trans (Nat.mul_le_mul hx hy) (Nat.le_of_eq ?_)
      grind
    unfold bdQ
    generalize (4294967296 ^ 1024 : Nat) = BB at *
    have n2 : (-V.2.1).natAbs ≤ 2147483648 * sN := by omega
    have n3 : (-V.2.2.1).natAbs ≤ 2147483648 * sN := by omega
    refine ⟨⟨?_, ?_⟩, ⟨?_, ?_⟩⟩
    · have a := pr _ _ w1 c1
      have b := pr _ _ w2 c2
      omega
    · have a := pr _ _ w3 c1
      have b := pr _ _ w4 c2
      omega
    · have a := pr _ _ w4 c1
      have b := pr _ _ n2 c2
      omega
    · have a := pr _ _ n3 c1
      have b := pr _ _ w1 c2
      omega)
  refine ⟨⟨?_, ?_, ?_⟩, ?_⟩
  · show -9223372036854775808 < zz.1 * (g : Int) ∧ zz.1 * (g : Int) < 9223372036854775808
    omega
  · show -9223372036854775808 < zz.2 * (g : Int) ∧ zz.2 * (g : Int) < 9223372036854775808
    omega
  · show (Mm.1 * (zz.1 * (g : Int))).natAbs + (Mm.2.1 * (zz.2 * (g : Int))).natAbs < 4294967296 ^ 1024 ∧ (Mm.2.2.1 * (zz.1 * (g : Int))).natAbs + (Mm.2.2.2 * (zz.2 * (g : Int))).natAbs < 4294967296 ^ 1024
    obtain ⟨k1, k2, k3, k4⟩ := K1
    have pr : ∀ x y : Int, x.natAbs ≤ K → y.natAbs ≤ 34359738368000 → (x * y).natAbs ≤ K * 34359738368000 := by
      intro x y hx hy
      rw [Int.natAbs_mul]
      exact Nat.mul_le_mul hx hy
    have a1 := pr _ _ k1 zb1
    have a2 := pr _ _ k2 zb2
    have a3 := pr _ _ k3 zb1
    have a4 := pr _ _ k4 zb2
    generalize (4294967296 ^ 1024 : Nat) = BB at *
    omega
  · obtain ⟨n1, n2, s1', s2', s3'⟩ := stop
    rw [orb_scale, trn_scale g0] at s3'
    refine ⟨n1, n2, ?_, ?_, ?_⟩
    · show mvT _ _ _ _ n1 (trn (Mm.1 * (zz.1 * (g : Int)) + Mm.2.1 * (zz.2 * (g : Int)), Mm.2.2.1 * (zz.1 * (g : Int)) + Mm.2.2.2 * (zz.2 * (g : Int))))
      rw [hz0]
      exact s1'
    · show mvT _ _ _ _ n2 (itQ _ _ _ _ n1 (trn (Mm.1 * (zz.1 * (g : Int)) + Mm.2.1 * (zz.2 * (g : Int)), Mm.2.2.1 * (zz.1 * (g : Int)) + Mm.2.2.2 * (zz.2 * (g : Int)))))
      rw [hz0]
      exact s2'
    · show _ = itQ _ _ _ _ n2 (itQ _ _ _ _ n1 (trn (Mm.1 * (zz.1 * (g : Int)) + Mm.2.1 * (zz.2 * (g : Int)), Mm.2.2.1 * (zz.1 * (g : Int)) + Mm.2.2.2 * (zz.2 * (g : Int)))))
      rw [hz0]
      exact s3'
end
