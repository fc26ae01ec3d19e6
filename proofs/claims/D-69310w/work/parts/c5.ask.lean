/-! the operation ask -/
section
variable {d w : Int} {n : Nat} {A : Nat → pI} {nxt : Nat → Nat} {cls : Nat → Int} {cnt : Nat} {nm : Nat → Nat}
variable {xs : Nat → Int32} {Ln : Nat} {T : isTF d w n A nxt cls cnt nm} {ord : Fin cnt → Nat} {st : gS cnt} {ps : List Nat} {t u x6 x7 mn : Int} {f : Fm} {e c s1 s2 r wl : Nat} {fs : List Fam} {nb : Int} {ts : List Nat}
variable {G : mj_G} {I : mj_H → Prop} {h : mj_H}
/-- the house, asked for a form -/
theorem ask_co (L : isLay h) (co : isCo T ord st ps t u x6 x7 f e c s1 s2 fs nb ts h) {F : Fm} {e' c0 s1' s2' : Nat} (hse : seP d w n A cls cnt nm t u F e' c0 s1' s2') : mj_Ct G (mj_mt 93) 0 0 [.ref 1] (askH h F) (fun oc h' => oc = .returned none ∧ (isCo T ord st ps t u x6 x7 F e' c0 s1' s2' [] 0 ts h' ∧ (∀ x, 1412 ≤ x ∨ x = 0 → sam h h' x) ∧ hT h' = hT h ∧ isLay h') ∧ hI h' 1 8 = jI c0 ∧ isLay h') := by
  obtain ⟨⟨t1, t2, t3, t4, ⟨t5, t6, t7, t8⟩, t9, t10⟩, hh, cf, ⟨⟨tc1, tc2⟩, tcl⟩, m114, ra, rb, rt⟩ := co
  have FA : Fr (fun x => x = 1 ∨ x = 97 ∨ x = 113) noT h (askH h F) := (((Fr.refl (fun x => x = 1 ∨ x = 97 ∨ x = 113) noT h).sFm (by omega) F).sFm (by omega) F).sI (by omega) 19 (jI 0)
  have LA := L.F FA (fun _ z => z.elim)
  have g97 : isFm (askH h F) 97 F := isFm_sFm (sFm h 113 F) (L.K 97 rfl) F
  have c93 := ct_93 G LA T (t1.F FA (fun x hx => by omega)) (t5.F FA (by omega) (by omega) (fun z => z)) (t6.F FA (by omega) (by omega) (fun z => z)) (t10.F FA (fun _ _ z => z)) g97 hse
  refine mj_Ct_mono c93 ?_
  rintro oc h' ⟨e1, hh', i18, ow, F2⟩
  have Ft : Fr (fun x => sSe x ∨ x = 97) tLe h h' := (FA.mono (fun x z => by omega) (fun _ z => z.elim)).trans (F2.mono (fun x z => Or.inl z) (fun _ z => z))
  have L' := L.F Ft (fun x z => by omega)
  refine ⟨e1, ⟨⟨⟨t1.F Ft (fun x z => by omega), t2.F Ft (fun x z => by omega), t3.F Ft (by omega) (by omega), t4.F Ft (by omega) (by omega), ⟨t5.F Ft (by omega) (by omega) (by omega), t6.F Ft (by omega) (by omega) (by omega), t7.F Ft (by omega) (by omega) (by omega), t8.F Ft (by omega) (by omega) (by omega)⟩, t9.F Ft (fun x hx z => by omega), hh'.2.1.z⟩, hh', ⟨(ow 19 (by omega)).trans (sI_at _ _ _ _), i18, Nat.zero_le _, fun i t ht => absurd ht (by simp)⟩, ⟨⟨(ow 22 (by omega)).trans tc1, fun i t ht => (Ft.I (by omega) _).trans (tc2 i t ht)⟩, tcl⟩, m114.F Ft (fun x hx z => by omega), ra, rb, (Ft.R (by omega) _).trans rt.1, (Ft.R (by omega) _).trans rt.2.1, (Ft.R (by omega) _).trans rt.2.2.1, rt.2.2.2⟩, fun x hx => sam_F Ft (by omega) (by omega), Ft.T, L'⟩, hh'.2.2.2.1, L'⟩
/-- the model, asked for a form -/
theorem ask_mo (M : isLam h) (hwd : wdP d w) {m : Nat} (mo : isMo T ord st ps t u x6 x7 mn f m c r wl fs nb ts h) {F : Fm} {e' c0 r' wl' k i0 : Nat} {pl : Nat → Nat} (hhd : hdP d w n A cls cnt nm F e' k c0 r' i0 pl wl') (r1 : inR (1 * t + -F.2.1 * u)) (r2 : inR (1 * t + F.2.1 * u)) : mj_Ct G (mj_mt 220) 0 0 [.ref 1412, .long (jL F.1), .long (jL F.2.1), .long (jL F.2.2)] (sI h 1412 0 (jI 0)) (fun oc h' => oc = .returned none ∧ (isMo T ord st ps t u x6 x7 mn F e' c0 r' wl' [] 0 ts h' ∧ hI h' 1412 0 = jI 0 ∧ (∀ x, x < 1412 ∨ x = 1441 → sam h h' x) ∧ hT h' = hT h ∧ isLam h') ∧ hI h' 1412 23 = jI c0 ∧ isLam h') := by
  obtain ⟨⟨a1, a2, a3, a4⟩, ⟨b1, b2, b3, b4, b5⟩, -, -, -, ⟨g1, g2⟩, ⟨bo, ⟨q1, q2⟩, q3⟩, ok⟩ := mo
  obtain ⟨hfb, ⟨ht, hpo, hm, han⟩, ⟨hk, hkf, hc, hcl⟩, hrg, hwl⟩ := hhd
  have F0 : FrM (fun k => k = 0) noT noT h (sI h 1412 0 (jI 0)) := (FrM.refl (fun k => k = 0) noT noT h).fI rfl _
  have c220 := ct_220 G (F0.lay M) T (a1.M F0 (by omega) ⟨fun z => z, fun z => z⟩ (fun _ _ z => z)) hwd hfb ht hpo hm han hk hkf hc hcl hrg hwl (t := t) (u := u) b1 b2 r1 r2
  refine mj_Ct_mono c220 ?_
  rintro oc h' ⟨e1, ⟨j0, j1, j2⟩, ⟨i35, i34, i23, i24, i26⟩, ah, rg, w4, n4, n5, n8, n9, n10, n11, keep, F2⟩
  have Ft : FrM (fun k => k = 0 ∨ iHo k) jHo sHo h h' := (F0.mono (fun _ z => Or.inl z) (fun _ z => z.elim) (fun _ z => z.elim)).trans (F2.mono (fun _ z => Or.inr z) (fun _ z => z) (fun _ z => z))
  have M' := Ft.lay M
  have k67 : ∀ {i : Nat} {v : Int}, i = 6 ∨ i = 7 → isN h i v → isN h' i v := fun hi q k hk => (keep _ (by omega)).trans (q k hk)
  refine ⟨e1, ⟨⟨⟨a1.M Ft (by omega) (by omega) (fun x hx => by omega), a2.M Ft (by omega) (by omega), a3.M Ft (by omega) (fun x hx => by omega), a4.M Ft (by omega) (by omega)⟩, ⟨n4, n5, k67 (Or.inl rfl) b3, k67 (Or.inr rfl) b4, (Ft.2.2.1 19 (by omega)).trans b5⟩, ⟨⟨j0, j1, j2⟩, ⟨i23, i24, i26⟩, ah, rg, w4⟩, ⟨n8, n9, n10, n11⟩, ⟨i34, i35, Nat.zero_le _, fun i t ht => absurd ht (by simp)⟩, ⟨(Ft.2.2.1 31 (by omega)).trans g1, fun i t ht => (Ft.I (by decide) (by omega) _).trans (g2 i t ht)⟩, ⟨bo, ⟨(Ft.2.2.2 54 (by omega)).trans q1, (Ft.2.2.2 55 (by omega)).trans q2⟩, q3⟩, fun c hc => ?_⟩, (F2.2.2.1 0 (by omega)).trans (sI_at _ _ _ _), fun x hx => sam_M Ft (by omega) (by omega), Ft.fr.T, M'⟩, i23, M'⟩
  obtain ⟨v, v1, v2, v3⟩ := ok c hc
  exact ⟨v, v1, v2, (Ft.I (by decide) (by omega) _).trans v3⟩
theorem op_130 (hwd : wdP d w) (hask : ∀ F : Fm, akP d F.1 F.2.1 F.2.2 → ∃ (e' c0 s1' s2' r' wl' k i0 : Nat) (pl : Nat → Nat), seP d w n A cls cnt nm t u F e' c0 s1' s2' ∧ hdP d w n A cls cnt nm F e' k c0 r' i0 pl wl' ∧ inR (1 * t + -F.2.1 * u) ∧ inR (1 * t + F.2.1 * u) ∧ ∀ h', isSt xs Ln T ord st ps t u x6 x7 mn F e' c0 s1' s2' r' wl' [] 0 ts h' → I h') (hI0 : ∀ h', isSt xs Ln T ord st ps t u x6 x7 mn f e c s1 s2 r wl fs nb ts h' → I h') (hs : isSt xs Ln T ord st ps t u x6 x7 mn f e c s1 s2 r wl fs nb ts h) (p q v : Int32) : op1 G I Ln xs 130 226 [.int p, .int q, .int v] h := by
  obtain ⟨x, rfl, hx⟩ := int_ex p
  obtain ⟨y, rfl, hy⟩ := int_ex q
  obtain ⟨z, rfl, hz⟩ := int_ex v
  have hd := T.1.2.2.1
  obtain ⟨sc, L, M, ⟨hT4, k41, n41⟩, co, mo⟩ := id hs
  by_cases ak : akP d x y z
  · obtain ⟨e', c0, s1', s2', r', wl', k, i0, pl, hse, hhd, r1, r2, hI1⟩ := hask (x, y, z) ak
    have c131 := ct_131 G L co.1.1.2.2 hd hx hy hz (k := c0) (fun _ => ask_co (G := G) L co hse)
    refine ⟨_, ct_130 G (L.K 1 rfl) c131 ?_, ?_⟩
    · rintro o1 h1 ⟨q1, -⟩
      obtain ⟨e1, -, smm, -⟩ := q1 ak
      exact Or.inl ⟨_, e1, (smm 1441 (by omega)).K.trans k41, (smm 1441 (by omega)).N.trans n41⟩
    · rintro o h1 (⟨b, h0, ⟨q1, -⟩, rfl, rfl⟩ | ⟨x9, ⟨q1, -⟩, rfl⟩)
      · obtain ⟨e1, co0, smm, hTe, L0⟩ := q1 ak
        have eb : b = jI c0 := by
          have : Outcome.returned (some (Value.int b)) = Outcome.returned (some (Value.int (jI c0))) := e1
          injection this with e2
          injection e2 with e3
          injection e3
        have sm1 : ∀ x, (1412 ≤ x ∨ x = 0) → x ≠ 1441 → sam h (sJ h0 1441 0 b.toInt64) x := fun x hx hne => (smm x hx).trans (sam_J hne)
        have M1 : isLam (sJ h0 1441 0 b.toInt64) := M.S (fun c h2 h3 => sm1 c (Or.inl h2) (by omega))
        have co1 := co0.S (h' := sJ h0 1441 0 b.toInt64) (fun c hc => sam_J (by have := Rc_is hc; omega))
        have mo1 := mo.S (h' := sJ h0 1441 0 b.toInt64) (fun c hc => by
          unfold Rm at hc
          simp only [Bool.and_eq_true, Nat.ble_eq, Nat.blt_eq] at hc
          exact sm1 c (by omega) (by omega))
        have c226 := ct_226 G M1 hd mo1.1.1.2.2.1 hx hy hz (k := c0) (fun _ => ask_mo (G := G) M1 hwd mo1 hhd r1 r2)
        refine ⟨0, by omega, rfl, sc.S (sm1 0 (by omega) (by decide)), M1.K 1412 rfl, _, c226, ?_⟩
        rintro o2 h2 ⟨p1, -⟩
        obtain ⟨f1, mo2, hcode, sm2, hT2, M2⟩ := p1 ak
        have L2 : isLay h2 := by
          have L1 : isLay (sJ h0 1441 0 b.toInt64) := L0
          refine ⟨fun a ha => ?_, fun a k q e => ?_⟩
          · rw [(sm2 a (by omega)).K, (sm2 a (by omega)).N]
            exact L1.1 a ha
          · have ha : a < 1412 := by
              rcases Nat.lt_or_ge a 1412 with z | z
              · exact z
              · exfalso
                have e1 : Nat.blt a 1412 = false := Bool.eq_false_iff.2 (fun y => by rw [Nat.blt_eq] at y; omega)
                unfold lyRc at e
                rw [e1] at e
                cases e
            rw [(sm2 a (by omega)).R]
            exact L1.2 a k q e
        refine ⟨jI c0, f1, hI1 h2 ⟨(sc.S (sm1 0 (by omega) (by decide))).S (sm2 0 (by omega)), L2, M2, ⟨?_, ?_, ?_⟩, co1.S (fun c hc => sm2 c (by have := Rc_is hc; omega)), mo2⟩, hcode, fun _ => ?_⟩
        · rw [hT2]
          show 1442 ≤ hT h0
          rw [hTe]
          exact hT4
        · exact (sm2 1441 (by omega)).K.trans ((smm 1441 (by omega)).K.trans k41)
        · exact (sm2 1441 (by omega)).N.trans ((smm 1441 (by omega)).N.trans n41)
        · rw [(sm2 1441 (by omega)).J, sJ_at, eb]
      · obtain ⟨e1, -⟩ := q1 ak
        cases e1
  · have c131 := ct_131 G L co.1.1.2.2 hd hx hy hz (P := fun _ => True) (k := 0) (fun y => absurd y ak)
    exact op_of (kd := 80) (ok := akP d x y z) (v := 0) hI0 hs idle113 (fun Q c hQ => ct_130 G (L.K 1 rfl) c hQ) (mj_Ct_mono c131 (fun o h' q => ⟨fun y => absurd y ak, q.2⟩)) (fun h1 s1' => mj_Ct_mono (ct_226 G s1'.2.2.1 hd s1'.2.2.2.2.2.1.1.2.2.1 hx hy hz (P := fun _ => True) (k := 0) (fun y => absurd y ak)) (fun o h' q => ⟨fun y => absurd y ak, q.2⟩))
end
