/-! the operation take -/
theorem prn_eq {d : Int} (h : isDd d) : prnF d = prF d := by
  unfold prnF prF
  rw [Int.tdiv_eq_ediv_of_dvd (by rcases h with h | h <;> omega)]
/-- lists that rise and have the same members are the same -/
theorem asc_uniq : ∀ (ps qs : List Nat), (∀ i j p q : Nat, i < j → ps[i]? = some p → ps[j]? = some q → p < q) → (∀ i j p q : Nat, i < j → qs[i]? = some p → qs[j]? = some q → p < q) → (∀ x, x ∈ ps ↔ x ∈ qs) → ps = qs
  | [], [], _, _, _ => rfl
  | [], q :: qs, _, _, h => absurd ((h q).2 List.mem_cons_self) (by simp)
  | p :: ps, [], _, _, h => absurd ((h p).1 List.mem_cons_self) (by simp)
  | p :: ps, q :: qs, h1, h2, h => by
    have a1 : ∀ x, x ∈ ps → p < x := fun x hx => by
      obtain ⟨i, hi⟩ := List.mem_iff_getElem?.1 hx
      exact h1 0 (i + 1) p x (by omega) rfl hi
    have a2 : ∀ x, x ∈ qs → q < x := fun x hx => by
      obtain ⟨i, hi⟩ := List.mem_iff_getElem?.1 hx
      exact h2 0 (i + 1) q x (by omega) rfl hi
    have e : p = q := by
      rcases List.mem_cons.1 ((h p).1 List.mem_cons_self) with z | z
      · exact z
      · rcases List.mem_cons.1 ((h q).2 List.mem_cons_self) with y | y
        · exact y.symm
        · have := a1 q y
          have := a2 p z
          omega
    subst e
    refine congrArg (p :: ·) (asc_uniq ps qs (fun i j a b hij ha hb => h1 (i + 1) (j + 1) a b (by omega) ha hb) (fun i j a b hij ha hb => h2 (i + 1) (j + 1) a b (by omega) ha hb) (fun x => ⟨fun hx => ?_, fun hx => ?_⟩))
    · rcases List.mem_cons.1 ((h x).1 (List.mem_cons_of_mem _ hx)) with z | z
      · have := a1 x hx
        omega
      · exact z
    · rcases List.mem_cons.1 ((h x).2 (List.mem_cons_of_mem _ hx)) with z | z
      · have := a2 x hx
        omega
      · exact z
theorem isOP_uniq {D : Nat} {ps qs : List Nat} (h1 : isOP D ps) (h2 : isOP D qs) : ps = qs := asc_uniq ps qs h1.2.1 h2.2.1 (fun x => ⟨fun hx => h2.2.2 x (h1.1 x hx).1 (h1.1 x hx).2.1 (h1.1 x hx).2.2, fun hx => h1.2.2 x (h2.1 x hx).1 (h2.1 x hx).2.1 (h2.1 x hx).2.2⟩)
theorem isLay.S {h h' : mj_H} (L1 : isLay h) (sm2 : ∀ x, x < 1412 → sam h h' x) : isLay h' := by
  refine ⟨fun a ha => ?_, fun a k q e => ?_⟩
  · rw [(sm2 a (by omega)).K, (sm2 a (by omega)).N]
    exact L1.1 a ha
  · have ha : a < 1412 := by
      rcases Nat.lt_or_ge a 1412 with z | z
      · exact z
      · exfalso
        have e1 : Nat.blt a 1412 = false := Bool.eq_false_iff.2 (fun y => by rw [Nat.blt_eq] at y; omega)
        unfold lyRc at e
        rw [e1] at e
        cases e
    rw [(sm2 a (by omega)).R]
    exact L1.2 a k q e
section
variable {d w : Int} {n : Nat} {A : Nat → pI} {nxt : Nat → Nat} {cls : Nat → Int} {cnt : Nat} {nm : Nat → Nat}
/-- the list's bound of the model -/
def mlP (d w e : Int) : Prop := (d < 0 ∧ 0 ≤ e ∧ e * e ≤ (-d).tdiv 3 ∧ (-d).tdiv 3 < (e + 1) * (e + 1)) ∨ (0 < d ∧ e = w)
/-- what is to be known of a discriminant -/
def bgP (T : isTF d w n A nxt cls cnt nm) (ord : Fin cnt → Nat) (st : gS cnt) (ps : List Nat) (t u x6 x7 mn : Int) (e s1 s2 r wl : Nat) : Prop := (cls = (clSt nxt n n).1 ∧ cnt = (clSt nxt n n).2.1 ∧ nm = (clSt nxt n n).2.2) ∧ tbP d w n A nxt ∧ isUn d w t u x6 x7 ∧ (w ≤ 1024 ∧ wdP d w) ∧ (∀ x, isOrd (mulC T) (oneC T) x (ord x) ∧ ord x ≤ 4096) ∧ (∃ fu, gnOK T ord fu (st0 T) ∧ gnOT T ord fu (st0 T) ∧ st = gnS T ord fu (st0 T)) ∧ isOP d.natAbs ps ∧ seP d w n A cls cnt nm t u (prF d) e (oneC T).val s1 s2 ∧ (∃ e' : Int, mlP d w e' ∧ (mfL d w e').length = n ∧ aL (mfL d w e') = A) ∧ isFr d A cnt nm ∧ (∃ Nu, muP d w Nu t u x6 x7 mn) ∧ (∃ (k i0 : Nat) (pl : Nat → Nat), hdP d w n A cls cnt nm (prF d) e k (oneC T).val r i0 pl wl) ∧ inR (1 * t + -(prF d).2.1 * u) ∧ inR (1 * t + (prF d).2.1 * u)
variable {T : isTF d w n A nxt cls cnt nm} {ord : Fin cnt → Nat} {st : gS cnt} {ps : List Nat} {t u x6 x7 mn : Int} {e s1 s2 r wl : Nat}
variable {G : mj_G}
/-- the house begins -/
theorem bg_co {h : mj_H} (L : isLay h) (m8 : isM0 h 8) (m99 : isM0 h 99) (m114 : isM0 h 114) {ra rb : Nat} (rt : isRt h ra rb) (B : bgP T ord st ps t u x6 x7 mn e s1 s2 r wl) : mj_Ct G (mj_mt 18) 0 0 [.ref 1, .long (jL d)] h (fun oc h' => oc = .returned none ∧ isCo T ord st ps t u x6 x7 (prF d) e (oneC T).val s1 s2 [] 0 [] h' ∧ Fr sBg tBg h h') := by
  obtain ⟨⟨hcls, hcnt, hnm⟩, htb, hun, ⟨hwb, hwd⟩, ho, ⟨fu, hok, -, hst⟩, hps, hse, -⟩ := B
  have e1 := prn_eq T.1.2.1
  rw [← e1] at hse
  refine mj_Ct_mono (ct_18 G L m8 m99 hcls hcnt hnm T htb hun hwb ho hok hse) ?_
  rintro oc h' ⟨q1, ⟨ps', hp', hs'⟩, hh', ⟨i18, i19, i22⟩, F⟩
  have := isOP_uniq hp' hps
  subst this
  rw [← hst] at hs'
  rw [← e1]
  refine ⟨q1, ⟨hs', hh', ⟨i19, i18, Nat.zero_le _, fun i t ht => absurd ht (by simp)⟩, ⟨⟨i22, fun i t ht => absurd ht (by simp)⟩, Nat.zero_le _⟩, m114.F F (fun x hx z => by omega), ra, rb, (F.R (by omega) _).trans rt.1, (F.R (by omega) _).trans rt.2.1, (F.R (by omega) _).trans rt.2.2.1, rt.2.2.2⟩, F⟩
/-- the model begins -/
theorem bg_mo {h : mj_H} (M : isLam h) (bo : isBo h) (ok : isOK h) (B : bgP T ord st ps t u x6 x7 mn e s1 s2 r wl) : mj_Ct G (mj_mt 191) 0 0 [.ref 1412, .long (jL d)] h (fun oc h' => oc = .returned none ∧ isMo T ord st ps t u x6 x7 mn (prF d) e (oneC T).val r wl [] 0 [] h' ∧ FrM iBe jAny sBe h h') := by
  obtain ⟨⟨hcls, hcnt, hnm⟩, ⟨m0, -, -, -, -, -, -, -, h4⟩, hun, ⟨hwb, hwd⟩, ho, ⟨fu, -, hok, hst⟩, hps, hse, ⟨e', he, el, eA⟩, hfr, ⟨Nu, hmu⟩, ⟨k, i0, pl, hhd⟩, r1, r2⟩ := B
  refine mj_Ct_mono (ct_191 G M hwd hwb he el eA ⟨hcls.symm, hcnt.symm, hnm.symm⟩ T h4 hfr ho hok hmu hhd r1 r2) ?_
  rintro oc h' ⟨q1, a1, a2, a3, ⟨ps', hp', a4⟩, b, c, au, ⟨i31, i34, i35⟩, F⟩
  have := isOP_uniq hp' hps
  subst this
  rw [← hst] at a3
  obtain ⟨bb, ⟨g1, g2⟩, g3⟩ := bo
  refine ⟨q1, ⟨⟨a1, a2, a3, a4⟩, b, c, au, ⟨i34, i35, Nat.zero_le _, fun i t ht => absurd ht (by simp)⟩, ⟨i31, fun i t ht => absurd ht (by simp)⟩, ⟨bb, ⟨(F.2.2.2 54 (by omega)).trans g1, (F.2.2.2 55 (by omega)).trans g2⟩, g3⟩, fun c hc => ?_⟩, F⟩
  obtain ⟨v, v1, v2, v3⟩ := ok c hc
  exact ⟨v, v1, v2, (F.I (by decide) (by omega) _).trans v3⟩
end
section
variable {d w : Int} {n : Nat} {A : Nat → pI} {nxt : Nat → Nat} {cls : Nat → Int} {cnt : Nat} {nm : Nat → Nat}
variable {xs : Nat → Int32} {Ln : Nat} {T : isTF d w n A nxt cls cnt nm} {ord : Fin cnt → Nat} {st : gS cnt} {ps : List Nat} {t u x6 x7 mn : Int} {f : Fm} {e c s1 s2 r wl : Nat} {fs : List Fam} {nb : Int} {ts : List Nat}
variable {G : mj_G} {I : mj_H → Prop} {h : mj_H}
/-- AN OPERATION THAT CHANGES WHAT IS HELD -/
theorem op_chg (hs : isSt xs Ln T ord st ps t u x6 x7 mn f e c s1 s2 r wl fs nb ts h) {jw jc jm : Nat} {av : List Value} {v : Int} {kP : Nat → Prop} {cf : Nat → Int} {PC PM : mj_H → Prop} (hPC : ∀ h h', PC h → (∀ c, Rc c = true → sam h h' c) → PC h') (cw : ∀ Q, mj_Ct G (mj_mt jc) 1 6 (.ref 1 :: av) h Q → (∀ o1 h1, Q o1 h1 → wrQ kP o1 h1) → mj_Ct G (mj_mt jw) 1 6 (.ref 1 :: (av ++ [.ref 1441])) h (wrP cf Q)) (cc : mj_Ct G (mj_mt jc) 1 6 (.ref 1 :: av) h (fun o h' => o = .returned (some (.int (jI v))) ∧ PC h' ∧ (∀ x, 1412 ≤ x ∨ x = 0 → sam h h' x) ∧ hT h' = hT h ∧ isLay h')) (cm : ∀ h1, isLam h1 → isMo T ord st ps t u x6 x7 mn f e c r wl fs nb ts h1 → mj_Ct G (mj_mt jm) 0 0 (.ref 1412 :: av) h1 (fun o h' => o = .returned (some (.int (jI v))) ∧ PM h' ∧ hI h' 1412 0 = jI 0 ∧ (∀ x, x < 1412 ∨ x = 1441 → sam h1 h' x) ∧ hT h' = hT h1 ∧ isLam h')) (hfin : ∀ h', scr xs Ln h' → isLay h' → isLam h' → (1442 ≤ hT h' ∧ hK h' 1441 = 2 ∧ hN h' 1441 = 1) → PC h' → PM h' → I h') : op1 G I Ln xs jw jm av h := by
  obtain ⟨sc, L, M, ⟨hT4, k41, n41⟩, co, mo⟩ := id hs
  refine ⟨_, cw _ cc ?_, ?_⟩
  · rintro o1 h1 ⟨e1, -, smm, -⟩
    exact Or.inl ⟨_, e1, (smm 1441 (by omega)).K.trans k41, (smm 1441 (by omega)).N.trans n41⟩
  · rintro o h1 (⟨b, h0, ⟨e1, co0, smm, hTe, L0⟩, rfl, rfl⟩ | ⟨x9, ⟨e1, -⟩, rfl⟩)
    · have eb : b = jI v := by
        have : Outcome.returned (some (Value.int b)) = Outcome.returned (some (Value.int (jI v))) := e1
        injection this with e2
        injection e2 with e3
        injection e3
      have sm1 : ∀ x, (1412 ≤ x ∨ x = 0) → x ≠ 1441 → sam h (sJ h0 1441 0 b.toInt64) x := fun x hx hne => (smm x hx).trans (sam_J hne)
      have M1 : isLam (sJ h0 1441 0 b.toInt64) := M.S (fun c h2 h3 => sm1 c (Or.inl h2) (by omega))
      have co1 := hPC _ (sJ h0 1441 0 b.toInt64) co0 (fun c hc => sam_J (by have := Rc_is hc; omega))
      have mo1 := mo.S (h' := sJ h0 1441 0 b.toInt64) (fun c hc => by
        unfold Rm at hc
        simp only [Bool.and_eq_true, Nat.ble_eq, Nat.blt_eq] at hc
        exact sm1 c (by omega) (by omega))
      refine ⟨0, by omega, rfl, sc.S (sm1 0 (by omega) (by decide)), M1.K 1412 rfl, _, cm _ M1 mo1, ?_⟩
      rintro o2 h2 ⟨f1, mo2, hcode, sm2, hT2, M2⟩
      have L1 : isLay (sJ h0 1441 0 b.toInt64) := L0
      refine ⟨jI v, f1, hfin h2 ((sc.S (sm1 0 (by omega) (by decide))).S (sm2 0 (by omega))) (L1.S (fun x hx => sm2 x (Or.inl hx))) M2 ⟨?_, ?_, ?_⟩ (hPC _ _ co1 (fun c hc => sm2 c (by have := Rc_is hc; omega))) mo2, hcode, fun _ => ?_⟩
      · rw [hT2]
        show 1442 ≤ hT h0
        rw [hTe]
        exact hT4
      · exact (sm2 1441 (by omega)).K.trans ((smm 1441 (by omega)).K.trans k41)
      · exact (sm2 1441 (by omega)).N.trans ((smm 1441 (by omega)).N.trans n41)
      · rw [(sm2 1441 (by omega)).J, sJ_at, eb]
    · cases e1
/-- some discriminant's data, all known, lead to I -/
def goP (xs : Nat → Int32) (Ln : Nat) (I : mj_H → Prop) (d : Int) : Prop := ∃ (w : Int) (n : Nat) (A : Nat → pI) (nxt : Nat → Nat) (cls : Nat → Int) (cnt : Nat) (nm : Nat → Nat) (T : isTF d w n A nxt cls cnt nm) (ord : Fin cnt → Nat) (st : gS cnt) (ps : List Nat) (t u x6 x7 mn : Int) (e s1 s2 r wl : Nat), bgP T ord st ps t u x6 x7 mn e s1 s2 r wl ∧ ∀ h', isSt xs Ln T ord st ps t u x6 x7 mn (prF d) e (oneC T).val s1 s2 r wl [] 0 [] h' → I h'
theorem op_97 (htake : ∀ v, tkP v → goP xs Ln I v) (hI0 : ∀ h', isSt xs Ln T ord st ps t u x6 x7 mn f e c s1 s2 r wl fs nb ts h' → I h') (hs : isSt xs Ln T ord st ps t u x6 x7 mn f e c s1 s2 r wl fs nb ts h) (p : Int32) : op1 G I Ln xs 97 224 [.int p] h := by
  obtain ⟨v, rfl, hv⟩ := int_ex p
  obtain ⟨sc, L, M, ⟨hT4, k41, n41⟩, co, mo⟩ := id hs
  by_cases tk : tkP v
  · obtain ⟨w', n', A', nxt', cls', cnt', nm', T', ord', st', ps', t', u', x6', x7', mn', e', s1', s2', r', wl', B, hgo⟩ := htake v tk
    obtain ⟨⟨-, -, -, -, -, m8, m99⟩, -, -, -, m114, ra, rb, rt⟩ := co
    have c98 := ct_98 G L hv (P := fun h' => isCo T' ord' st' ps' t' u' x6' x7' (prF v) e' (oneC T').val s1' s2' [] 0 [] h' ∧ (∀ x, 1412 ≤ x ∨ x = 0 → sam h h' x) ∧ hT h' = hT h ∧ isLay h') (cnt := cnt') (fun _ => mj_Ct_mono (bg_co (G := G) L m8 m99 m114 rt B) (by
      rintro oc h' ⟨q1, q2, F⟩
      have L' := L.F F (fun a z => by omega)
      exact ⟨q1, ⟨q2, fun x hx => sam_F F (by omega) (by omega), F.T, L'⟩, q2.1.1.2.1.1, L'⟩))
    refine op_chg (v := cnt') hs (PC := fun h' => isCo T' ord' st' ps' t' u' x6' x7' (prF v) e' (oneC T').val s1' s2' [] 0 [] h') (PM := fun h' => isMo T' ord' st' ps' t' u' x6' x7' mn' (prF v) e' (oneC T').val r' wl' [] 0 [] h') (fun h1 h2 q e => q.S e) (fun Q c hQ => ct_97 G (L.K 1 rfl) c hQ) (mj_Ct_mono c98 (fun o h' q => q.1 tk)) (fun h1 M1 mo1 => ?_) (fun h' q1 q2 q3 q4 q5 q6 => hgo h' ⟨q1, q2, q3, q4, q5, q6⟩)
    have F0 : FrM (fun k => k = 0) noT noT h1 (sI h1 1412 0 (jI 0)) := (FrM.refl (fun k => k = 0) noT noT h1).fI rfl _
    obtain ⟨-, -, -, -, -, -, bo, ok⟩ := mo1
    have c224 := ct_224 G M1 hv (P := fun h' => isMo T' ord' st' ps' t' u' x6' x7' mn' (prF v) e' (oneC T').val r' wl' [] 0 [] h' ∧ hI h' 1412 0 = jI 0 ∧ (∀ x, x < 1412 ∨ x = 1441 → sam h1 h' x) ∧ hT h' = hT h1 ∧ isLam h') (cnt := cnt') (fun _ => mj_Ct_mono (bg_mo (G := G) (h := sI h1 1412 0 (jI 0)) (F0.lay M1) bo ok B) (by
      rintro oc h' ⟨q1, q2, F⟩
      have Ft : FrM (fun _ => True) jAny sBe h1 h' := (F0.mono (fun _ _ => trivial) (fun _ z => z.elim) (fun _ z => z.elim)).trans (F.mono (fun _ _ => trivial) (fun _ z => z) (fun _ z => z))
      have M' := Ft.lay M1
      exact ⟨q1, ⟨q2, (F.2.2.1 0 (by omega)).trans (sI_at _ _ _ _), fun x hx => sam_M Ft (by omega) (by omega), Ft.fr.T, M'⟩, q2.1.1.2.1.1, M'⟩))
    exact mj_Ct_mono c224 (fun o h' q => q.1 tk)
  · have c98 := ct_98 G L hv (P := fun _ => True) (cnt := 0) (fun y => absurd y tk)
    exact op_of (kd := 80) (ok := tkP v) (v := 0) hI0 hs idle0 (fun Q c hQ => ct_97 G (L.K 1 rfl) c hQ) (mj_Ct_mono c98 (fun o h' q => ⟨fun y => absurd y tk, fun y => ⟨h, Fr.refl _ _ _, (q.2 y).1, (q.2 y).2⟩⟩)) (fun h1 s1' => mj_Ct_mono (ct_224 G s1'.2.2.1 hv (P := fun _ => True) (cnt := 0) (fun y => absurd y tk)) (fun o h' q => ⟨fun y => absurd y tk, q.2⟩))
end
