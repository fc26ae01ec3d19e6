/-! solutions below 0: the list of the model is the house's -/
section
variable {d w : Int} {n : Nat} {A : Nat → pI} {nxt : Nat → Nat} {cls : Nat → Int} {cnt : Nat} {nm : Nat → Nat}
theorem sol_below (T : isTF d w n A nxt cls cnt nm) (hd : d < 0) (hw : wdP d w) (hw4 : w ≤ 1024) {F : Fm} {e k c r i0 : Nat} {pl : Nat → Nat} (h : hnP d w n A cls cnt nm F e k c r i0 pl) {t u : Int} (hun : unN d t u) (hu : isUu d t u) {x : Int} (hx : inQ x) : ∃ fs', slX d w t u F e e r x fs' ∧ ∀ fam, fam ∈ fs' → (fam.2.2.1.natAbs : Int) < pB 1024 ∧ (fam.2.2.2.natAbs : Int) < pB 1024 := by
  have hn := T.1.1
  have hdb := T.1.2.2.1
  have hdd := T.1.2.1
  have x0 := hx.1
  have hp := unN_pell hun
  obtain ⟨zt, hzt⟩ := Classical.axiomOfChoice (fun tr => gdN_ex T hd hw hw4 h hun hu hx tr)
  have h' := h
  obtain ⟨hV, ho, ⟨e1, e2, e3, e4, e5, e6⟩, ⟨hVg, ok, rd⟩, ⟨k1, k2', -, -⟩, hneg, -, -⟩ := h'
  have hr1 : r = 1 := (hneg hd).2
  have hdV := auM_det (f := F) hV.1 hp
  obtain ⟨hs1, hs2⟩ := slP_of T hw hw4 h hu hx (zt := zt) (fun tr htr p hp' hh => by
    have : p = 0 := by omega
    subst this
    obtain ⟨g, b, hb, he⟩ := (tAll_mem x0).1 htr
    exact (hzt tr g b hb he hh).1)
  -- trials that are met
  have metI : ∀ tr, metN d w (itF d w e F) r tr = true ↔ hitT (itF d w e F) tr = true := by
    intro tr
    rw [met_iff]
    constructor
    · rintro ⟨j, j1, j2⟩
      have : j = 0 := by omega
      subst this
      exact j2
    · intro q
      exact ⟨0, by omega, q⟩
  obtain ⟨Tm, hTm⟩ : ∃ Tm, (tAll d w x).filter (metN d w (itF d w e F) r) = Tm := ⟨_, rfl⟩
  rw [hTm] at hs1 hs2
  have Tmem : ∀ tr, tr ∈ Tm ↔ ∃ g b, isTrl d x g b ∧ tr = rc1 d w g (x.tdiv ((g * g : Nat) : Int)) b ∧ hitT (itF d w e F) tr = true := by
    intro tr
    rw [← hTm, List.mem_filter, metI, tAll_mem x0]
    constructor
    · rintro ⟨⟨g, b, h1, h2⟩, h3⟩
      exact ⟨g, b, h1, h2, h3⟩
    · rintro ⟨g, b, h1, h2, h3⟩
      exact ⟨⟨g, b, h1, h2⟩, h3⟩
  have Tasc : Tm.Pairwise ltT := by
    rw [← hTm]
    exact (tr_asc d w x _).filter _
  -- what a met trial is
  have met1 : ∀ g b, isTrl d x g b → hitT (itF d w e F) (rc1 d w g (x.tdiv ((g * g : Nat) : Int)) b) = true → itF d w (lnF d w (frmO d (x.tdiv ((g * g : Nat) : Int)) b)) (frmO d (x.tdiv ((g * g : Nat) : Int)) b) = itF d w e F := by
    intro g b h1 h2
    have t1 := (trial_all hn hdb hw hw4 hx h1).1
    exact (hit_form hn hVg.1 t1.1).1 h2
  have met2 : ∀ g b, isTrl d x g b → itF d w (lnF d w (frmO d (x.tdiv ((g * g : Nat) : Int)) b)) (frmO d (x.tdiv ((g * g : Nat) : Int)) b) = itF d w e F → hitT (itF d w e F) (rc1 d w g (x.tdiv ((g * g : Nat) : Int)) b) = true := by
    intro g b h1 h2
    have t1 := (trial_all hn hdb hw hw4 hx h1).1
    exact (hit_form hn hVg.1 t1.1).2 h2
  obtain ⟨Kf, hK⟩ := key_ex (F := F) x0
  -- a met trial's solution: value and key
  have claim1 : ∀ g b, isTrl d x g b → hitT (itF d w e F) (rc1 d w g (x.tdiv ((g * g : Nat) : Int)) b) = true → (∃ z, evF F z.1 z.2 = x ∧ zt (rc1 d w g (x.tdiv ((g * g : Nat) : Int)) b) = solZ d F z) ∧ evF F (zt (rc1 d w g (x.tdiv ((g * g : Nat) : Int)) b)).1 (zt (rc1 d w g (x.tdiv ((g * g : Nat) : Int)) b)).2 = x ∧ Kf (zt (rc1 d w g (x.tdiv ((g * g : Nat) : Int)) b)) = ((g : Int), (b : Int)) := by
    intro g b h1 h2
    have hm := met1 g b h1 h2
    obtain ⟨N0, n1, n2, n3, n4⟩ := tr_mat T hw hw4 hV hx h1 hm
    have hb := (hzt _ g b h1 rfl h2).2
    obtain ⟨f1, f2, f3⟩ := tl_facts hx h1
    have hev : evF F ((zT d w F e x g b).1 * (g : Int)) ((zT d w F e x g b).2 * (g : Int)) = x := by
      rw [ev_scale, n4, ← Int.natCast_mul]
      exact (sq_dv h1.2.1).1.symm
    have hz0 := ne_of_ev (z := ((zT d w F e x g b).1 * (g : Int), (zT d w F e x g b).2 * (g : Int))) x0 hev
    generalize zt (rc1 d w g (x.tdiv ((g * g : Nat) : Int)) b) = v at *
    have hvev : evF F v.1 v.2 = x := (inO_ev hV.1 hp hb.1).trans hev
    refine ⟨⟨_, hev, bsO_uniq hV.1 hp hz0 hb (sol_bs hd hdd hV.1 hun _)⟩, hvev, ?_⟩
    have hin : inO F t u (N0.1 * (g : Int), N0.2.2.1 * (g : Int)) v := by
      have e7 : N0.1 = (zT d w F e x g b).1 := congrArg Prod.fst n2
      have e8 : N0.2.2.1 = (zT d w F e x g b).2 := congrArg Prod.snd n2
      rw [e7, e8]
      exact hb.1
    obtain ⟨N', m1, m2, m3⟩ := inO_mat hV.1 hp n1 hin
    have gcd1 : Int.gcd v.1 v.2 = g := by
      rw [m3]
      show Int.gcd ((g : Int) * N'.1) ((g : Int) * N'.2.2.1) = g
      rw [Int.gcd_mul_left, col_gcd m1, Int.natAbs_natCast, Nat.mul_one]
    have hk := hK v hvev N'.1 N'.2.2.1 N'.2.1 N'.2.2.2 (by rw [gcd1]; exact congrArg Prod.fst m3) (by rw [gcd1]; exact congrArg Prod.snd m3) (by
      have : N'.1 * N'.2.2.2 - N'.2.1 * N'.2.2.1 = 1 := m1
      rw [← this]
      grind)
    rw [hk, gcd1]
    have hroot : rootE F N'.1 N'.2.2.1 N'.2.1 N'.2.2.2 = (b : Int) := by
      rw [root_ac]
      have : acF F N'.1 N'.2.1 N'.2.2.1 N'.2.2.2 = frmO d (x.tdiv ((g * g : Nat) : Int)) b := m2.trans n3
      rw [this]
      rfl
    rw [hroot]
    have hb2 := (rts_mem.1 h1.2.2.2.1).1
    have mp := (tl_le x0 h1).2.2 hd
    rw [Int.natCast_mul] at hb2 mp
    congr 1
    exact Int.emod_eq_of_lt (by omega) (by omega)
  -- every solution's best is a met trial's
  have claim2 : ∀ z, evF F z.1 z.2 = x → ∃ g b, isTrl d x g b ∧ hitT (itF d w e F) (rc1 d w g (x.tdiv ((g * g : Nat) : Int)) b) = true ∧ zt (rc1 d w g (x.tdiv ((g * g : Nat) : Int)) b) = solZ d F z := by
    intro z hz
    have hz0 := ne_of_ev x0 hz
    have hbs := sol_bs hd hdd hV.1 hun z
    generalize solZ d F z = v at *
    have hvev : evF F v.1 v.2 = x := (inO_ev hV.1 hp hbs.1).trans hz
    have hv0 := ne_of_ev x0 hvev
    obtain ⟨g, x1, y1, q, s, g0, hg, hzg, hdet, hval⟩ := sol_parts x0 hvev
    obtain ⟨s1, s2, s3, s4, N, s5, s6, s7, s8⟩ := sol_trial T hd hw hw4 hV hVg rd hx hvev g0 hzg hdet hval
    generalize (rootE F x1 y1 q s % (2 * evF F x1 y1)).toNat = b at *
    have h2 := met2 g b s3 s4
    refine ⟨g, b, s3, h2, ?_⟩
    have hb := (hzt _ g b s3 rfl h2).2
    obtain ⟨N0, n1, n2, n3, n4⟩ := tr_mat T hw hw4 hV hx s3 s4
    have hev : evF F ((zT d w F e x g b).1 * (g : Int)) ((zT d w F e x g b).2 * (g : Int)) = x := by
      rw [ev_scale, n4, ← Int.natCast_mul]
      exact (sq_dv s3.2.1).1.symm
    have hzz := ne_of_ev (z := ((zT d w F e x g b).1 * (g : Int), (zT d w F e x g b).2 * (g : Int))) x0 hev
    have o1 := fun w' => sol_orbit T hd hw hw4 hV hun hx s3 s4 s5 s6 s7 s8 w'
    have ev : (x1 * (g : Int), y1 * (g : Int)) = v := by
      rw [hzg, Int.mul_comm, Int.mul_comm y1]
    rw [ev] at o1
    have o2 := fun w' => inO_mem hd hdd hV.1 hun hz0 hbs.1 w'
    have hb2 : bsO F t u ((zT d w F e x g b).1 * (g : Int), (zT d w F e x g b).2 * (g : Int)) v := bsO_congr (fun w' => (o2 w').symm.trans (o1 w')) hbs
    exact bsO_uniq hV.1 hp hzz hb hb2
  -- the list of solutions that the house tells
  have L1nd : (Tm.map zt).Nodup := by
    rw [List.Nodup, List.pairwise_map]
    refine List.Pairwise.imp_of_mem ?_ Tasc
    intro a b ha hb hab hz
    obtain ⟨g, b1, h1, h2, h3⟩ := (Tmem a).1 ha
    obtain ⟨g', b1', h1', h2', h3'⟩ := (Tmem b).1 hb
    subst h2
    subst h2'
    have q1 := (claim1 g b1 h1 h3).2.2
    have q2 := (claim1 g' b1' h1' h3').2.2
    rw [hz, q2] at q1
    have a1 : ((g' : Nat) : Int) = g := congrArg Prod.fst q1
    have a2 : ((b1' : Nat) : Int) = b1 := congrArg Prod.snd q1
    have hab' : ltK ((g : Int), (b1 : Int)) ((g' : Int), (b1' : Int)) := hab
    unfold ltK at hab'
    simp only at hab'
    omega
  have L1mem : ∀ v, v ∈ Tm.map zt ↔ ∃ z, evF F z.1 z.2 = x ∧ v = solZ d F z := by
    intro v
    rw [List.mem_map]
    constructor
    · rintro ⟨tr, h1, rfl⟩
      obtain ⟨g, b, i1, i2, i3⟩ := (Tmem tr).1 h1
      subst i2
      exact (claim1 g b i1 i3).1
    · rintro ⟨z, hz, rfl⟩
      obtain ⟨g, b, i1, i2, i3⟩ := claim2 z hz
      exact ⟨_, (Tmem _).2 ⟨g, b, i1, rfl, i2⟩, i3⟩
  have pag := hVg.2.2 hd
  have small := (T.2.1 k k1).2.2
  have sm1 : (itF d w e F).1 = (A k).1 := by rw [k2']; rfl
  refine ⟨Tm.map (fun tr : Tr => ((tr.1, tr.2.1, zt tr) : Fam)), ⟨by omega, hs1, fun z => by omega, fun _ => ⟨fun xn => ?_, ?_⟩⟩, fun fam hfam => ?_⟩
  · -- no trials
    have : Tm = [] := by
      cases Tm with
      | nil => rfl
      | cons a l =>
        obtain ⟨g, b, i1, -⟩ := (Tmem a).1 (List.mem_cons_self ..)
        exact (i1.2.2.1 ⟨hd, xn⟩).elim
    rw [this]
    rfl
  · rcases Int.lt_or_le 0 x with xp | xn
    · -- x > 0
      have hv : 0 ≤ (4 * (itF d w e F).1 * x).tdiv (-d) := by
        rw [Int.tdiv_eq_ediv_of_nonneg (Int.mul_nonneg (by omega) (by omega))]
        exact Int.ediv_nonneg (Int.mul_nonneg (by omega) (by omega)) (by omega)
      obtain ⟨Y, hY⟩ := wd_ex hv
      have hYv : (4 * (itF d w e F).1 * x).tdiv (-d) = (4 * (itF d w e F).1 * x) / (-d) := Int.tdiv_eq_ediv_of_nonneg (Int.mul_nonneg (by omega) (by omega))
      have hYb : Y ≤ 100000 := by
        rcases Nat.lt_or_ge 100000 Y with q | q
        · exfalso
          have y1 := hY.2.1
          have y2 : (100001 : Int) * 100001 ≤ (Y : Int) * Y := sq_le (by decide) (by omega)
          have y3 : (4 * (itF d w e F).1 * x) / (-d) ≤ 4 * (itF d w e F).1 * x := Int.ediv_le_self _ (Int.mul_nonneg (by omega) (by omega))
          have y4 : 4 * (itF d w e F).1 * x ≤ 4096 * 1000000 := Int.mul_le_mul (by rw [sm1]; omega) hx.2.2 (by omega) (by decide)
          omega
        · exact q
      -- what is gone through
      obtain ⟨Lv, hLv⟩ : ∃ Lv, ((List.range (2 * Y + 1)).flatMap (fun i : Nat => candL d (itF d w e F).1 (itF d w e F).2.1 x (-(Y : Int) + i))).map (fun z => solZ d F (abk (tnF d w F) e z)) = Lv := ⟨_, rfl⟩
      have hbel : belX d w F e x Y = Lv.foldl putX ([], 0) := by
        unfold belX
        rw [bel_fold, hLv]
      have hM0 := itM_det (d := d) (w := w) F e
      have hac := itM_ac (w := w) hn hV.1 e
      have cmem : ∀ (z : zI) (y : Int), z ∈ candL d (itF d w e F).1 (itF d w e F).2.1 x y ↔ z.2 = y ∧ evF (itF d w e F) z.1 z.2 = x := fun z y => cand_mem hVg.1 pag
      have cev : ∀ z : zI, evF F (abk (tnF d w F) e z).1 (abk (tnF d w F) e z).2 = evF (itF d w e F) z.1 z.2 := by
        intro z
        rw [abk_mv, ← evM, hac]
      have Lvmem : ∀ v, v ∈ Lv ↔ ∃ z, evF F z.1 z.2 = x ∧ v = solZ d F z := by
        intro v
        rw [← hLv, List.mem_map]
        constructor
        · rintro ⟨z, hz, rfl⟩
          obtain ⟨i, -, hi⟩ := List.mem_flatMap.1 hz
          exact ⟨_, (cev z).trans ((cmem z _).1 hi).2, rfl⟩
        · rintro ⟨z, hz, rfl⟩
          have hz' : abk (tnF d w F) e (mv (ivM (itM d w e F I2)) z) = z := by
            rw [abk_mv, ← mv_mm, mm_iv hM0, mv_one]
          have ev' : evF (itF d w e F) (mv (ivM (itM d w e F I2)) z).1 (mv (ivM (itM d w e F I2)) z).2 = x := by
            rw [← cev, hz']
            exact hz
          refine ⟨mv (ivM (itM d w e F I2)) z, ?_, by rw [hz']⟩
          generalize mv (ivM (itM d w e F I2)) z = z' at *
          have pcg : 0 < (itF d w e F).2.2 := by
            have := def_pos hd hVg.1 pag (x := 0) (y := 1) (Or.inr (by decide))
            unfold evF at this
            omega
          obtain ⟨-, -, q3, -⟩ := pos_bd hd hVg.1 pag pcg ev'
          have q4 : z'.2 * z'.2 ≤ (4 * (itF d w e F).1 * x) / (-d) := by
            rw [Int.le_ediv_iff_mul_le (by omega), Int.mul_comm]
            exact q3
          rw [← hYv] at q4
          have q5 := hY.2.2
          have q6 : z'.2.natAbs < Y + 1 := by
            have e9 := abs_sq z'.2
            have := lt_of_sq (x := (z'.2.natAbs : Int)) (y := (Y : Int) + 1) (by omega) (by omega)
            omega
          refine List.mem_flatMap.2 ⟨(z'.2 + Y).toNat, List.mem_range.2 (by omega), (cmem _ _).2 ⟨by omega, ev'⟩⟩
      obtain ⟨p1, p2, p3, p4, p5⟩ := put_all Lv ([], 0) ⟨List.Pairwise.nil, Nat.zero_le _, fun z => by
        have : (0 : Nat) < 0 := z
        omega⟩
      rw [← hbel] at p1 p2 p3 p4 p5
      have sub : ∀ v, v ∈ (belX d w F e x Y).1 → ∃ z, evF F z.1 z.2 = x ∧ v = solZ d F z := by
        intro v hv
        rcases p3 v hv with q | q
        · cases q
        · exact (Lvmem v).1 q
      have lenL : (Tm.map zt).length = Tm.length := List.length_map ..
      have lenF : (Tm.map (fun tr : Tr => ((tr.1, tr.2.1, zt tr) : Fam))).length = Tm.length := List.length_map ..
      have lenle : (belX d w F e x Y).1.length ≤ Tm.length := by
        rw [← lenL]
        exact len_sub _ _ p1.1 (fun v hv => (L1mem v).2 (sub v hv))
      have solev : ∀ v, (∃ z, evF F z.1 z.2 = x ∧ v = solZ d F z) → evF F v.1 v.2 = x := by
        rintro v ⟨z, hz, rfl⟩
        exact (inO_ev hV.1 hp (sol_bs hd hdd hV.1 hun z).1).trans hz
      refine ⟨Y, Kf, hYb, fun _ => ⟨hY, fun y z y1 y2 hz => ?_, ⟨fun z hz => ?_, fun z z' hz hz' hk => ?_⟩, ?_, fun hle M hM hMm => ?_⟩⟩
      · have ev1 := (cev z).trans ((cmem z y).1 hz).2
        have b62 : ∀ q : zI, evF F q.1 q.2 = x → bd62 q := by
          intro q hq
          have := solN_bd hd hV ho hx hq
          unfold bd62
          omega
        refine ⟨b62 _ ev1, fun h5 => ?_⟩
        rw [au_eq ⟨h5, hd⟩ hdd hV.1 hun, au_eq ⟨h5, hd⟩ hdd hV.1 hun]
        exact ⟨b62 _ ((au_ev hV.1 hp _).trans ev1), b62 _ ((au_ev hV.1 hp _).trans ((au_ev hV.1 hp _).trans ev1))⟩
      · have hev := solev z (sub z hz)
        have hb := solN_bd hd hV ho hx hev
        obtain ⟨g, x1, y1, q, s, g0, hg, hzg, hdet, hval⟩ := sol_parts x0 hev
        have hpos := (sol_trial T hd hw hw4 hV hVg rd hx hev g0 hzg hdet hval).1
        refine ⟨by omega, ?_, fun a b c' d' => hK z hev a b c' d'⟩
        rw [hg]
        have gp : (0 : Int) < (g : Int) * g := Int.mul_pos (by omega) (by omega)
        have e3 : x.tdiv ((g : Int) * g) = evF F x1 y1 := by
          rw [hval, Int.mul_tdiv_cancel_left _ (by omega)]
        rw [e3]
        have e4' : 1 * evF F x1 y1 ≤ (g : Int) * g * evF F x1 y1 := Int.mul_le_mul_of_nonneg_right (by omega) (by omega)
        have e5' : (g : Int) * g * 1 ≤ (g : Int) * g * evF F x1 y1 := Int.mul_le_mul_of_nonneg_left (by omega) (by omega)
        have x2 := hx.2.2
        refine ⟨g0, ?_, hpos, by omega⟩
        rcases Nat.lt_or_ge 1000 g with q' | q'
        · have : (1001 : Int) * 1001 ≤ (g : Int) * g := sq_le (by decide) (by omega)
          omega
        · exact q'
      · obtain ⟨z1, hz1, e1'⟩ := sub z hz
        obtain ⟨z2, hz2, e2'⟩ := sub z' hz'
        obtain ⟨g, b, i1, i2, i3⟩ := claim2 z1 hz1
        obtain ⟨g', b', j1, j2, j3⟩ := claim2 z2 hz2
        rw [← e1'] at i3
        rw [← e2'] at j3
        have c1 := (claim1 g b i1 i2).2.2
        have c2 := (claim1 g' b' j1 j2).2.2
        rw [i3] at c1
        rw [j3] at c2
        rw [c1, c2] at hk
        have a1 : ((g : Nat) : Int) = g' := congrArg Prod.fst hk
        have a2 : ((b : Nat) : Int) = b' := congrArg Prod.snd hk
        have a3 : g = g' := by omega
        have a4 : b = b' := by omega
        subst a3
        subst a4
        exact i3.symm.trans j3
      · rw [lenF]
        have l256 := p1.2.1
        rcases Nat.eq_zero_or_pos (belX d w F e x Y).2 with ov | ov
        · have all := (p4 ov).2
          have : (Tm.map zt).length ≤ (belX d w F e x Y).1.length := len_sub _ _ L1nd (fun v hv => all v ((Lvmem v).2 ((L1mem v).1 hv)))
          rw [lenL] at this
          omega
        · obtain ⟨z, z1, z2⟩ := p5 rfl ov
          have l1 := p1.2.2 ov
          have := len_sub (z :: (belX d w F e x Y).1) (Tm.map zt) (List.nodup_cons.2 ⟨z2, p1.1⟩) (fun v hv => by
            rcases List.mem_cons.1 hv with q | q
            · rw [q]
              exact (L1mem z).2 ((Lvmem z).1 z1)
            · exact (L1mem v).2 (sub v q))
          rw [lenL, List.length_cons] at this
          omega
      · have ov : (belX d w F e x Y).2 = 0 := by
          rcases Nat.eq_zero_or_pos (belX d w F e x Y).2 with q | q
          · exact q
          · have := p1.2.2 q
            omega
        have all := (p4 ov).2
        have Mmem : ∀ v, v ∈ M ↔ ∃ z, evF F z.1 z.2 = x ∧ v = solZ d F z := by
          intro v
          rw [hMm]
          exact ⟨sub v, fun q => all v ((Lvmem v).2 q)⟩
        refine sort_eq (R := ltFm) ltFm_irr _ _ ?_ ?_ (fun fam => ?_)
        · rw [List.pairwise_map]
          rw [List.pairwise_iff_getElem]
          intro i j hi hj hij
          exact hM i j _ _ hij (List.getElem?_eq_getElem hi) (List.getElem?_eq_getElem hj)
        · rw [List.pairwise_map]
          exact Tasc.imp (fun {a b} hab => hab)
        · rw [List.mem_map, List.mem_map]
          constructor
          · rintro ⟨v, hv, rfl⟩
            obtain ⟨z, hz, rfl⟩ := (Mmem v).1 hv
            obtain ⟨g, b, i1, i2, i3⟩ := claim2 z hz
            have c1 := (claim1 g b i1 i2).2.2
            rw [i3] at c1
            refine ⟨_, (Tmem _).2 ⟨g, b, i1, rfl, i2⟩, ?_⟩
            unfold famZ
            rw [c1]
            show (((g : Nat) : Int), ((b : Nat) : Int), zt (rc1 d w g (x.tdiv ((g * g : Nat) : Int)) b)) = _
            rw [i3]
          · rintro ⟨tr, htr, rfl⟩
            obtain ⟨g, b, i1, i2, i3⟩ := (Tmem tr).1 htr
            subst i2
            obtain ⟨c0, -, c1⟩ := claim1 g b i1 i3
            refine ⟨_, (Mmem _).2 c0, ?_⟩
            unfold famZ
            rw [c1]
            rfl
    · exact ⟨0, Kf, by decide, fun q => by omega⟩
  · obtain ⟨tr, htr, rfl⟩ := List.mem_map.1 hfam
    obtain ⟨g, b, i1, i2, i3⟩ := (Tmem tr).1 htr
    subst i2
    have hev := (claim1 g b i1 i3).2.1
    obtain ⟨b1, b2⟩ := solN_bd hd hV ho hx hev
    have hb := big2 (t := 1) (by
      have := two_cast 15700
      rw [← this]
      have h1 : (1 : Nat) ≤ 2 ^ 15700 := Nat.pow_pos (by decide)
      generalize (2 ^ 15700 : Nat) = X at *
      omega)
    show ((zt (rc1 d w g (x.tdiv ((g * g : Nat) : Int)) b)).1.natAbs : Int) < pB 1024 ∧ ((zt (rc1 d w g (x.tdiv ((g * g : Nat) : Int)) b)).2.natAbs : Int) < pB 1024
    generalize pB 1024 = PB at *
    omega
end
