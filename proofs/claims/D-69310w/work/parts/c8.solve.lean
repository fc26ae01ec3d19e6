/-! the operation solve -/
section
variable {d w : Int} {n : Nat} {A : Nat → pI} {nxt : Nat → Nat} {cls : Nat → Int} {cnt : Nat} {nm : Nat → Nat}
variable {xs : Nat → Int32} {Ln : Nat} {T : isTF d w n A nxt cls cnt nm} {ord : Fin cnt → Nat} {st : gS cnt} {ps : List Nat} {t u x6 x7 mn : Int} {f : Fm} {e c s1 s2 r wl : Nat} {fs : List Fam} {nb : Int} {ts : List Nat}
variable {G : mj_G} {I : mj_H → Prop} {h : mj_H}
theorem isTf.M {I J S : Nat → Prop} {h h' : mj_H} (F : FrM I J S h h') (a : isTf h nb fs) (h1 : ¬ I 34 ∧ ¬ I 35) (h2 : ∀ c, 1429 ≤ c ∧ c ≤ 1432 → ¬ S c) : isTf h' nb fs := by
  obtain ⟨e1, e2, e3, e4⟩ := a
  have aI : ∀ (c k : Nat), 1429 ≤ c ∧ c ≤ 1432 → hI h' c k = hI h c k := fun c k hc => F.I (by omega) (h2 c hc) k
  have kW : ∀ {j : Nat} {v : Int}, isTw h j v → isTw h' j v := fun q => ⟨(aI _ _ (by omega)).trans q.1, fun k hk => (aI _ _ (by omega)).trans (q.2 k hk)⟩
  refine ⟨(F.2.2.1 34 h1.1).trans e1, (F.2.2.1 35 h1.2).trans e2, e3, fun i t ht => ?_⟩
  obtain ⟨p1, p2, p3, p4⟩ := e4 i t ht
  exact ⟨(aI _ _ (by omega)).trans p1, (aI _ _ (by omega)).trans p2, kW p3, kW p4⟩
theorem isMo.gen {m : Nat} {I J S : Nat → Prop} {h h' : mj_H} (a : isMo T ord st ps t u x6 x7 mn f m c r wl fs nb ts h) (F : FrM I J S h h') (hI1 : ∀ k, I k → k = 0 ∨ k = 34 ∨ k = 35 ∨ k = 40 ∨ k = 48) (hJ1 : ∀ k, J k → 50 ≤ k ∧ k ≤ 57) (hS1 : ∀ c, S c → (1429 ≤ c ∧ c ≤ 1438) ∨ c = 1440) {fs' : List Fam} {nb' : Int} (tf : isTf h' nb' fs') (bo : isBo h') (ok : isOK h') : isMo T ord st ps t u x6 x7 mn f m c r wl fs' nb' ts h' := by
  obtain ⟨⟨a1, a2, a3, a4⟩, ⟨b1, b2, b3, b4, b5⟩, ⟨c1, ⟨c2, c3, c4⟩, c5, c6, c7⟩, ⟨d1, d2, d3, d4⟩, -, ⟨g1, g2⟩, -, -⟩ := a
  have kI : ∀ k, ¬ (k = 0 ∨ k = 34 ∨ k = 35 ∨ k = 40 ∨ k = 48) → hI h' 1412 k = hI h 1412 k := fun k hk => F.2.2.1 k (fun z => hk (hI1 k z))
  have kJ : ∀ k, ¬ (50 ≤ k ∧ k ≤ 57) → hJ h' 1412 k = hJ h 1412 k := fun k hk => F.2.2.2 k (fun z => hk (hJ1 k z))
  have aI : ∀ (c k : Nat), c ≠ 1412 → ¬ ((1429 ≤ c ∧ c ≤ 1438) ∨ c = 1440) → hI h' c k = hI h c k := fun c k hc h9 => F.I hc (fun z => h9 (hS1 c z)) k
  have aJ : ∀ (c k : Nat), c ≠ 1412 → ¬ ((1429 ≤ c ∧ c ≤ 1438) ∨ c = 1440) → hJ h' c k = hJ h c k := fun c k hc h9 => F.J hc (fun z => h9 (hS1 c z)) k
  have kN : ∀ {i : Nat} {v : Int}, isN h i v → isN h' i v := fun q k hk => (aI _ _ (by decide) (by omega)).trans (q k hk)
  have nI : ∀ k, ¬ (k = 0 ∨ k = 34 ∨ k = 35 ∨ k = 40 ∨ k = 48) → ¬ I k := fun k hk z => hk (hI1 k z)
  have nJ : ∀ k, ¬ (50 ≤ k ∧ k ≤ 57) → ¬ J k := fun k hk z => hk (hJ1 k z)
  have nS : ∀ c, ¬ ((1429 ≤ c ∧ c ≤ 1438) ∨ c = 1440) → ¬ S c := fun c hc z => hc (hS1 c z)
  exact ⟨⟨a1.M F ⟨nI _ (by omega), nI _ (by omega)⟩ ⟨nJ _ (by omega), nJ _ (by omega)⟩ (fun x hx => nS _ (by omega)), a2.M F (nI _ (by omega)) (nS _ (by omega)), a3.M F ⟨nI _ (by omega), nI _ (by omega)⟩ (fun x hx => nS _ (by omega)), a4.M F (nI _ (by omega)) (nS _ (by omega))⟩, ⟨kN b1, kN b2, kN b3, kN b4, (kI 19 (by omega)).trans b5⟩, ⟨⟨(kJ 20 (by omega)).trans c1.1, (kJ 21 (by omega)).trans c1.2.1, (kJ 22 (by omega)).trans c1.2.2⟩, ⟨(kI 23 (by omega)).trans c2, (kI 24 (by omega)).trans c3, (kI 26 (by omega)).trans c4⟩, fun i hi => (aJ _ _ (by decide) (by omega)).trans (c5 i hi), fun hd => ⟨(kI 27 (by omega)).trans (c6 hd).1, fun i hi => ⟨(aI _ _ (by decide) (by omega)).trans ((c6 hd).2 i hi).1, (aI _ _ (by decide) (by omega)).trans ((c6 hd).2 i hi).2.1, (aI _ _ (by decide) (by omega)).trans ((c6 hd).2 i hi).2.2⟩⟩, fun j hj => kN (c7 j hj)⟩, ⟨kN d1, kN d2, kN d3, kN d4⟩, tf, ⟨(kI 31 (by omega)).trans g1, fun i t ht => (aI _ _ (by decide) (by omega)).trans (g2 i t ht)⟩, bo, ok⟩
/-- AN OPERATION THAT IS REFUSED, after some scratch work -/
theorem op_thr (hI0 : ∀ h', isSt xs Ln T ord st ps t u x6 x7 mn f e c s1 s2 r wl fs nb ts h' → I h') {jw jc jm kd : Nat} {av : List Value} {kP : Nat → Prop} {cf : Nat → Int} (hkd : kP kd) (hcf : 0 < cf kd ∧ cf kd ≤ 2) (cw : ∀ Q, mj_Ct G (mj_mt jc) 1 6 (.ref 1 :: av) h Q → (∀ o1 h1, Q o1 h1 → wrQ kP o1 h1) → mj_Ct G (mj_mt jw) 1 6 (.ref 1 :: (av ++ [.ref 1441])) h (wrP cf Q)) (cc : mj_Ct G (mj_mt jc) 1 6 (.ref 1 :: av) h (fun o h' => ∃ g, isSt xs Ln T ord st ps t u x6 x7 mn f e c s1 s2 r wl fs nb ts g ∧ jE kd g o h')) (cm : ∀ h1, isSt xs Ln T ord st ps t u x6 x7 mn f e c s1 s2 r wl fs nb ts h1 → mj_Ct G (mj_mt jm) 0 0 (.ref 1412 :: av) h1 (fun o h' => o = .returned (some (.int (jI 0))) ∧ hI h' 1412 0 = jI (cf kd) ∧ isSt xs Ln T ord st ps t u x6 x7 mn f e c s1 s2 r wl fs nb ts h')) : op1 G I Ln xs jw jm av h := by
  refine ⟨_, cw _ cc ?_, ?_⟩
  · rintro o1 h1 ⟨g, -, e1, e2⟩
    refine Or.inr ⟨_, e1, ?_⟩
    rw [e2, show hK (hNew g kd 0) (hT g) = kd from congrArg Prod.fst (hNew_kt g kd 0)]
    exact hkd
  · rintro o h1 (⟨b, h0, ⟨g, -, e1, -⟩, rfl, rfl⟩ | ⟨x, ⟨g, sg, e1, e2⟩, rfl⟩)
    · cases e1
    · have ex : x = hT g := by
        have : Outcome.threw x = Outcome.threw (hT g) := e1
        injection this
      have s1' := sg.new kd 0
      rw [← e2] at s1'
      have h12 := s1'.2.2.1.K 1412 rfl
      have ek : hK h1 x = kd := by
        rw [e2, ex]
        exact congrArg Prod.fst (hNew_kt g kd 0)
      refine ⟨cf kd, by omega, by rw [ek], s1'.1, h12, _, cm _ s1', ?_⟩
      rintro o2 h2 ⟨f1, f2, f3⟩
      exact ⟨jI 0, f1, hI0 _ f3, f2, fun y => absurd y (by omega)⟩
/-- what is to be known of the form at hand, for solve -/
def soF (d w : Int) (f : Fm) (e s1 r : Nat) : Prop := ((-1073741824 ≤ f.1 ∧ f.1 ≤ 1073741824) ∧ (-1073741824 ≤ f.2.1 ∧ f.2.1 ≤ 1073741824) ∧ (-1073741824 ≤ f.2.2 ∧ f.2.2 ≤ 1073741824)) ∧ (trm d w e f ∧ (d < 0 → posT d w e f) ∧ e ≤ 200 ∧ ∀ i, i < e → -4294967296 ≤ tnF d w f i ∧ tnF d w f i ≤ 4294967296) ∧ (0 < d → (0 < r ∧ r ≤ 40960) ∧ ∀ i, i < r → (-2147483648 ≤ tnF d w (itF d w e f) i ∧ tnF d w (itF d w e f) i < 2147483648) ∧ (-1073741824 < (itF d w i (itF d w e f)).1 ∧ (itF d w i (itF d w e f)).1 < 1073741824) ∧ (-1073741824 < (itF d w i (itF d w e f)).2.1 ∧ (itF d w i (itF d w e f)).2.1 < 1073741824)) ∧ (d < 0 → w = -1 ∧ (0 < (itF d w e f).1 ∧ (itF d w e f).1 ≤ 1048576) ∧ (-1048576 ≤ (itF d w e f).2.1 ∧ (itF d w e f).2.1 ≤ 1048576)) ∧ trL d w (itF d w e f) s1 f (1, 0, 0, 1) ∧ s1 < 2147483648 ∧ ∃ N, rnP d w (itF d w e f) N
noncomputable def belX (d w : Int) (f : Fm) (e : Nat) (x : Int) (Y : Nat) : xS := belS d f (tnF d w f) e (itF d w e f).1 (itF d w e f).2.1 x (2 * Y + 1) (-(Y : Int)) ([], 0)
/-- what is to be known of the solutions of x; fs' is the list of all families -/
def slX (d w t u : Int) (f : Fm) (e s1 r : Nat) (x : Int) (fs' : List Fam) : Prop :=
  fs'.length < 100000 ∧
  (∃ (N : Nat) (zf : Nat → xI), rnP d w (itF d w e f) N ∧ slP d w f (itF d w e f) s1 N ((t - u * f.2.1).tdiv 2) (u * -f.2.2) (u * f.1) ((t + u * f.2.1).tdiv 2) x zf ∧ mtV d w (itF d w e f) (tAll d w x) N = fs'.length ∧ (fs'.length ≤ 256 → ∀ i fam, fs'[i]? = some fam → ∃ k t, (tAll d w x)[k]? = some t ∧ mtM d w (itF d w e f) (tAll d w x) N k = true ∧ mCt (mtM d w (itF d w e f) (tAll d w x) N) k = i ∧ fam = (t.1, t.2.1, zf k))) ∧
  (0 < d → ∃ (M : Nat) (Rf : Int → Int → Int → List Fam), M ≤ 2170 ∧ (∀ g b : Nat, 0 < g → x.tmod ((g * g : Nat) : Int) = 0 → b < 2 * (x.tdiv ((g * g : Nat) : Int)).natAbs → rtD (4 * (x.tdiv ((g * g : Nat) : Int)).natAbs) d b → trOK d w M (tnF d w (itF d w e f)) (tnF d w f) r e (fun i => ((itF d w i (itF d w e f)).1, (itF d w i (itF d w e f)).2.1)) Rf g (x.tdiv ((g * g : Nat) : Int)) b) ∧ mF Rf d x x.natAbs 1 = fs') ∧
  (d < 0 → (x < 0 → fs' = []) ∧ ∃ (Y : Nat) (Kf : zI → pI), Y ≤ 100000 ∧ (0 < x → isWd ((4 * (itF d w e f).1 * x).tdiv (-d)) Y ∧ (∀ y z, -(Y : Int) ≤ y → y ≤ Y → z ∈ candL d (itF d w e f).1 (itF d w e f).2.1 x y → okZ d f (tnF d w f) e z) ∧ kyP f x (belX d w f e x Y).1 Kf ∧ (256 < (belX d w f e x Y).1.length + (belX d w f e x Y).2 ↔ 256 < fs'.length) ∧ ((belX d w f e x Y).1.length + (belX d w f e x Y).2 ≤ 256 → ∀ M, ascK Kf M → (∀ z, z ∈ M ↔ z ∈ (belX d w f e x Y).1) → M.map (famZ Kf) = fs')))
/-- the model's solve has run, and not yet copied -/
def slQ (T : isTF d w n A nxt cls cnt nm) (ord : Fin cnt → Nat) (st : gS cnt) (ps : List Nat) (t u x6 x7 mn : Int) (f : Fm) (e c r wl : Nat) (fs : List Fam) (nb : Int) (ts : List Nat) (fs' : List Fam) (h : mj_H) : mj_Q := fun o h' => o = .returned none ∧ isMo T ord st ps t u x6 x7 mn f e c r wl fs nb ts h' ∧ hI h' 1412 0 = jI 0 ∧ (∃ q : Nat, q < 2147483648 ∧ hI h' 1412 40 = jI q ∧ (256 < q ↔ 256 < fs'.length) ∧ (q ≤ 256 → isNf h' fs')) ∧ (∀ x, x < 1412 ∨ x = 1441 → sam h h' x) ∧ hT h' = hT h ∧ isLam h'
theorem pos_of {d : Int} (h0 : d ≠ 0) (h : ¬ d < 0) : 0 < d := by omega
theorem sol_mo (M : isLam h) (hd0 : d ≠ 0) (hf : soF d w f e s1 r) (mo : isMo T ord st ps t u x6 x7 mn f e c r wl fs nb ts h) {x : Int} (iq : inQ x) (hx : -2147483648 ≤ x ∧ x < 2147483648) {fs' : List Fam} (hX : slX d w t u f e s1 r x fs') : mj_Ct G (mj_mt 227) 0 0 [.ref 1412, .int (jI x)] h (fun o h' => (fs'.length ≤ 256 → o = .returned (some (.int (jI fs'.length))) ∧ isMo T ord st ps t u x6 x7 mn f e c r wl fs' x ts h' ∧ hI h' 1412 0 = jI 0 ∧ (∀ x, x < 1412 ∨ x = 1441 → sam h h' x) ∧ hT h' = hT h ∧ isLam h') ∧ (256 < fs'.length → o = .returned (some (.int (jI 0))) ∧ isMo T ord st ps t u x6 x7 mn f e c r wl fs nb ts h' ∧ hI h' 1412 0 = jI 2 ∧ (∀ x, x < 1412 ∨ x = 1441 → sam h h' x) ∧ hT h' = hT h ∧ isLam h')) := by
  have hd := T.1.2.2.1
  have hw := T.1.2.2.2.1
  obtain ⟨hfb, ⟨ftr, fpo, f2, fan⟩, frg, fng, -⟩ := hf
  obtain ⟨hl, -, hab, hbe⟩ := hX
  have h40 : ∀ h' : mj_H, hI (sI (sI h' 1412 0 (jI 0)) 1412 40 (jI 0)) 1412 40 = jI 0 := fun h' => sI_at _ _ _ _
  have F1 : FrM (fun k => k = 0 ∨ k = 40) noT noT h (sI (sI h 1412 0 (jI 0)) 1412 40 (jI 0)) := ((FrM.refl (fun k => k = 0 ∨ k = 40) noT noT h).fI (Or.inl rfl) _).fI (Or.inr rfl) _
  have c0 : hI (sI (sI h 1412 0 (jI 0)) 1412 40 (jI 0)) 1412 0 = jI 0 := (sI_k (sI h 1412 0 (jI 0)) 1412 (show (0 : Nat) ≠ 40 by decide) (jI 0)).trans (sI_at _ _ _ _)
  obtain ⟨⟨a1, -⟩, -, ⟨⟨j0, j1, j2⟩, ⟨-, i24, -⟩, ah, rg, -⟩, -, tf, -, bo, ok⟩ := id mo
  have run : mj_Ct G (mj_mt 227) 0 0 [.ref 1412, .int (jI x)] h (fun o h' => (¬ inQ x → jB 0 1 h o h') ∧ (inQ x → ∃ (h2 : mj_H) (q : Nat), q < 2147483648 ∧ slQ T ord st ps t u x6 x7 mn f e c r wl fs nb ts fs' h (.returned none) h2 ∧ hI h2 1412 40 = jI q ∧ (256 < q → o = .returned (some (.int (jI 0))) ∧ h' = sI h2 1412 0 (jI 2)) ∧ (q ≤ 256 → o = .returned (some (.int (jI q))) ∧ hI h' 1412 34 = jI x ∧ hI h' 1412 35 = jI q ∧ cpT h2 h' q q (2 * q) (1024 * q) ∧ FrM iSl noT sSl h2 h'))) := by
    refine ct_227q G M a1.2.2 (by omega) hx (P := slQ T ord st ps t u x6 x7 mn f e c r wl fs nb ts fs' h) (fun _ dn => ?_) (fun _ dp => ?_) ?_
    · obtain ⟨hneg, Y, Kf, hY2, hpos⟩ := hbe dn
      obtain ⟨fw, fA, fB⟩ := fng dn
      have c228 := ct_228 G (F1.lay M) (a1.2.2.M F1 (fun z => z) (fun z => z)) ⟨hd.1, dn⟩ fw (f := f) ⟨j0, j1, j2⟩ hfb f2 ((F1.2.2.1 24 (by omega)).trans i24) ah ftr (fpo dn) ⟨rfl, rfl⟩ fA fB bo ok (h40 h) iq (Y := Y) (fun z => (hpos z).1) hY2 (fun z => (hpos z).2.1) (Kf := Kf) (fun z => (hpos z).2.2.1)
      refine mj_Ct_mono c228 ?_
      rintro o h' ⟨q1, bo', ok', qn, qp, F2⟩
      have Ft : FrM (fun k => k = 0 ∨ iBw k) jBw sBw h h' := (F1.mono (fun _ z => by omega) (fun _ z => z.elim) (fun _ z => z.elim)).trans (F2.mono (fun _ z => Or.inr z) (fun _ z => z) (fun _ z => z))
      refine ⟨q1, mo.gen Ft (fun k z => by omega) (fun k z => z) (fun c z => by omega) (isTf.M Ft tf (by omega) (fun c hc => by omega)) bo' ok', (F2.2.2.1 0 (by omega)).trans c0, ?_, fun x hx => sam_M Ft (by omega) (by omega), Ft.fr.T, Ft.lay M⟩
      rcases Int.lt_or_lt_of_ne iq.1 with z | z
      · have nf := qn z
        rw [hneg z]
        exact ⟨0, by omega, nf.1, by simp, fun _ => nf⟩
      · obtain ⟨-, -, -, hc, hM⟩ := hpos z
        obtain ⟨p1, p2⟩ := qp z
        unfold belX at hc hM
        by_cases big : 256 < (belS d f (tnF d w f) e (itF d w e f).1 (itF d w e f).2.1 x (2 * Y + 1) (-(Y : Int)) ([], 0)).1.length + (belS d f (tnF d w f) e (itF d w e f).1 (itF d w e f).2.1 x (2 * Y + 1) (-(Y : Int)) ([], 0)).2
        · obtain ⟨q, g1, g2, g3⟩ := p1 big
          exact ⟨q, by omega, g3, ⟨fun _ => hc.1 big, fun _ => g1⟩, fun y => by omega⟩
        · obtain ⟨Ml, m1, m2, m3⟩ := p2 (by omega)
          rw [hM (by omega) Ml m1 m2] at m3
          have : ¬ 256 < fs'.length := fun y => big (hc.2 y)
          exact ⟨fs'.length, by omega, m3.1, Iff.rfl, fun _ => m3⟩
    · have dpos : 0 < d := pos_of hd0 dp
      have dlt : d < 1099511627776 := Int.lt_of_le_of_lt hd.2 (by decide)
      obtain ⟨Mb, Rf, hM, htr, hmf⟩ := hab dpos
      obtain ⟨fr1, fr2⟩ := frg dpos
      obtain ⟨g1, g2⟩ := rg dpos
      have c242 := ct_242 G (h := sI (sI h 1412 0 (jI 0)) 1412 40 (jI 0)) (F1.lay M) (a1.2.2.M F1 (fun z => z) (fun z => z)) (d := d) (w := w) ⟨dpos, dlt⟩ hw (r := r) (a := e) (M := Mb) (tn := tnF d w (itF d w e f)) (an := tnF d w f) ⟨⟨(F1.2.2.1 27 (by omega)).trans g1, (F1.2.2.1 24 (by omega)).trans i24⟩, ⟨fr1, f2⟩, fun i hi => ⟨(g2 i hi).2.2, (fr2 i hi).1⟩, fun i hi => ⟨ah i hi, fan i hi⟩⟩ (RA := fun i => ((itF d w i (itF d w e f)).1, (itF d w i (itF d w e f)).2.1)) ⟨(F1.2.2.1 27 (by omega)).trans g1, fr1.2, fun i hi => ⟨(g2 i hi).1, (g2 i hi).2.1, (fr2 i hi).2.1, (fr2 i hi).2.2⟩⟩ ok hM ⟨h40 h, by simp, fun i t _ ht => absurd ht (by simp)⟩ iq.1 (by have := iq.2; omega) htr (by rw [hmf]; exact hl)
      refine mj_Ct_mono c242 ?_
      rintro o h' ⟨q1, nf, ok', F2⟩
      have Ft : FrM (fun k => k = 0 ∨ iBw k) jBw sBw h h' := (F1.mono (fun _ z => by omega) (fun _ z => z.elim) (fun _ z => z.elim)).trans (F2.mono (fun _ z => Or.inr z) (fun _ z => by omega) (fun _ z => by omega))
      obtain ⟨bb, ⟨y1, y2⟩, y3⟩ := bo
      have bo' : isBo h' := ⟨bb, ⟨((F2.2.2.2 54 (by omega)).trans (F1.2.2.2 54 (fun z => z))).trans y1, ((F2.2.2.2 55 (by omega)).trans (F1.2.2.2 55 (fun z => z))).trans y2⟩, y3⟩
      rw [hmf] at nf
      exact ⟨q1, mo.gen Ft (fun k z => by omega) (fun k z => z) (fun c z => by omega) (isTf.M Ft tf (by omega) (fun c hc => by omega)) bo' ok', (F2.2.2.1 0 (by omega)).trans c0, ⟨fs'.length, by omega, nf.1, Iff.rfl, fun _ => nf⟩, fun x hx => sam_M Ft (by omega) (by omega), Ft.fr.T, Ft.lay M⟩
    · rintro o h' ⟨q1, -, -, ⟨q, q2, q3, -⟩, -, -, q4⟩
      exact ⟨q1, q4, q, q2, q3⟩
  refine mj_Ct_mono run ?_
  rintro o h' ⟨-, q2⟩
  obtain ⟨h2, q, hq31, ⟨-, mo2, c2, ⟨q', k1, k2, k3, k4⟩, sm2, hT2, M2⟩, e40, big, small⟩ := q2 iq
  by_cases qb : 256 < q'
  · have hqb := k3.1 qb
    refine ⟨fun y => by omega, fun _ => ?_⟩
    by_cases qq : 256 < q
    · obtain ⟨b1, rfl⟩ := big qq
      have Fc : FrM iCo jF noT h2 (sI h2 1412 0 (jI 2)) := FrM.code h2 _
      exact ⟨b1, mo2.code Fc, sI_at _ _ _ _, fun x hx => (sm2 x hx).trans (sam_M Fc (by omega) (fun z => z)), Fc.fr.T.trans hT2, Fc.lay M2⟩
    · exfalso
      have : jI (q : Int) = jI (q' : Int) := e40.symm.trans k2
      have := (jI_eq (by omega) (by omega) (by omega) (by omega)).1 this
      omega
  · have nf := k4 (by omega)
    have hqs : ¬ 256 < fs'.length := fun y => qb (k3.2 y)
    have eq' : fs'.length = q' := by
      have : jI (fs'.length : Int) = jI (q' : Int) := nf.1.symm.trans k2
      have := (jI_eq (by omega) (by omega) (by omega) (by omega)).1 this
      omega
    refine ⟨fun _ => ?_, fun y => by omega⟩
    have eqq : q = fs'.length := by
      have : jI (fs'.length : Int) = jI (q : Int) := nf.1.symm.trans e40
      have := (jI_eq (by omega) (by omega) (by omega) (by omega)).1 this
      omega
    subst eqq
    obtain ⟨b1, b2, b3, ⟨p1, p2, p3, p4⟩, F2⟩ := small (by omega)
    obtain ⟨-, -, -, -, -, -, ⟨bb, ⟨y1, y2⟩, y3⟩, ok2⟩ := id mo2
    have tf' : isTf h' x fs' := by
      refine ⟨b2, b3, by omega, fun i fam hfam => ?_⟩
      have hi := lt_of_some hfam
      obtain ⟨r1, r2, ⟨r3, r4⟩, r5, r6⟩ := nf.2.2 i fam (by omega) hfam
      refine ⟨(p1 i hi).trans r1, (p2 i hi).trans r2, ⟨(p3 _ (by omega)).trans r3, fun k hk => (p4 _ (by omega)).trans (r4 k hk)⟩, (p3 _ (by omega)).trans r5, fun k hk => (p4 _ (by omega)).trans (r6 k hk)⟩
    refine ⟨b1, mo2.gen F2 (fun k z => by omega) (fun k z => z.elim) (fun c z => by omega) tf' ⟨bb, ⟨(F2.2.2.2 54 (fun z => z)).trans y1, (F2.2.2.2 55 (fun z => z)).trans y2⟩, y3⟩ (fun c hc => ?_), (F2.2.2.1 0 (by omega)).trans c2, fun x hx => (sm2 x hx).trans (sam_M F2 (by omega) (by omega)), F2.fr.T.trans hT2, F2.lay M2⟩
    obtain ⟨v, v1, v2, v3⟩ := ok2 c hc
    exact ⟨v, v1, v2, (F2.I (by decide) (by omega) _).trans v3⟩
theorem op_136 (hd0 : d ≠ 0) (hf : soF d w f e s1 r) (hsol : ∀ x, inQ x → ∃ fs', slX d w t u f e s1 r x fs' ∧ (fs'.length ≤ 256 → ∀ h', isSt xs Ln T ord st ps t u x6 x7 mn f e c s1 s2 r wl fs' x ts h' → I h')) (hI0 : ∀ h', isSt xs Ln T ord st ps t u x6 x7 mn f e c s1 s2 r wl fs nb ts h' → I h') (hs : isSt xs Ln T ord st ps t u x6 x7 mn f e c s1 s2 r wl fs nb ts h) (p : Int32) : op1 G I Ln xs 136 227 [.int p] h := by
  obtain ⟨x, rfl, hx⟩ := int_ex p
  obtain ⟨sc, L, M, ⟨hT4, k41, n41⟩, co, mo⟩ := id hs
  have hd := T.1.2.2.1
  have hw := T.1.2.2.2.1
  have hbd : -1099511627776 < d ∧ d < 1099511627776 := by omega
  obtain ⟨⟨t1, -⟩, ⟨⟨f97, f98⟩, m99, ⟨w34, w36, w38, w40⟩, -⟩, cf, tc, m114, ra, rb, rt⟩ := id co
  have hrr := t1.2.2
  obtain ⟨-, -, -, -, hl1, hs1, -⟩ := id hf
  by_cases iq : inQ x
  · obtain ⟨fs', hX, hgo⟩ := hsol x iq
    obtain ⟨hl, ⟨N, zf, hrn, hsl, hV, hfam⟩, -⟩ := id hX
    have c137 := ct_137 G L hrr hbd hd0 hw f97 f98 hrn hl1 hs1 rt m114 w34 w36 w38 w40 hx (fun _ => hsl)
    rw [hV] at c137
    by_cases big : 256 < fs'.length
    · refine op_thr hI0 (kd := 78) (cf := code80) (Or.inr rfl) (by decide) (fun Q c hQ => ct_136 G (L.K 1 rfl) c hQ) (mj_Ct_mono c137 ?_) (fun h1 s1' => mj_Ct_mono (sol_mo s1'.2.2.1 hd0 hf s1'.2.2.2.2.2 iq hx hX) ?_)
      · rintro o h' ⟨-, q2⟩
        obtain ⟨g, F, rt', je⟩ := (q2 iq).1 big
        have sm : ∀ c, ¬ sGa c → sam h g c := fun c hc => sam_F F hc (fun z => hc (by omega))
        refine ⟨g, ⟨sc.S (sm 0 (by omega)), L.F F (fun a z => by omega), M.S (fun c h1 h2 => sm c (by omega)), ⟨by rw [F.T]; exact hT4, (sm 1441 (by omega)).K.trans k41, (sm 1441 (by omega)).N.trans n41⟩, co.chg (fun c hc => sm c (by have := Rk_is hc; omega)) (fun k hk => (sm 1 (by omega)).I k) (w36.S (sm _ (by omega)) (sm _ (by omega))) (w38.S (sm _ (by omega)) (sm _ (by omega))) (cf.S (sm 1 (by omega)) (sm 128 (by omega)) (sm 129 (by omega)) (fun c h1 h2 => sm c (by omega))) ⟨⟨((sm 1 (by omega)).I _).trans tc.1.1, fun i t ht => ((sm 131 (by omega)).I _).trans (tc.1.2 i t ht)⟩, tc.2⟩ (m114.S (fun x hx => sm x (by omega))) rt', mo.S (fun c hc => sm c ?_)⟩, je⟩
        unfold Rm at hc
        simp only [Bool.and_eq_true, Nat.ble_eq, Nat.blt_eq] at hc
        omega
      · rintro o h' ⟨-, q2⟩
        obtain ⟨b1, b2, b3, sm2, hT2, M2⟩ := q2 big
        obtain ⟨sc1, L1, M1, ⟨hT4', k41', n41'⟩, co1, -⟩ := s1'
        exact ⟨b1, b3, sc1.S (sm2 0 (by omega)), L1.S (fun x hx => sm2 x (by omega)), M2, ⟨by rw [hT2]; exact hT4', (sm2 1441 (by omega)).K.trans k41', (sm2 1441 (by omega)).N.trans n41'⟩, co1.S (fun c hc => sm2 c (by have := Rc_is hc; omega)), b2⟩
    · refine op_chg (v := fs'.length) hs (PC := fun h' => isCo T ord st ps t u x6 x7 f e c s1 s2 fs' x ts h') (PM := fun h' => isMo T ord st ps t u x6 x7 mn f e c r wl fs' x ts h') (fun h1 h2 q e => q.S e) (fun Q c hQ => ct_136 G (L.K 1 rfl) c hQ) (mj_Ct_mono c137 ?_) (fun h1 M1 mo1 => mj_Ct_mono (sol_mo M1 hd0 hf mo1 iq hx hX) (fun o h' q => q.1 (by omega))) (fun h' q1 q2 q3 q4 q5 q6 => hgo (by omega) h' ⟨q1, q2, q3, q4, q5, q6⟩)
      rintro o h' ⟨-, q2⟩
      obtain ⟨q3, ⟨q4, q5⟩, q6, ⟨q7, q8⟩, q9, q10, q11, F⟩ := (q2 iq).2 (by omega)
      have sm : ∀ c, ¬ (sSv c ∨ tSv c) → sam h h' c := fun c hc => sam_F F (fun z => hc (Or.inl z)) (fun z => hc (Or.inr z))
      refine ⟨q3, co.chg (fun c hc => sm c (by have := Rk_is hc; omega)) (fun k hk => q11 k (by omega)) q7 q8 ⟨q5, q4, by omega, fun i fam ht => ?_⟩ ⟨⟨(q11 22 (by omega)).trans tc.1.1, fun i t ht => ((sm 131 (by omega)).I _).trans (tc.1.2 i t ht)⟩, tc.2⟩ q9 q10, fun x hx => sm x (by omega), F.T, L.F F (fun a z => by omega)⟩
      obtain ⟨k, t', g1, g2, g3, g4⟩ := hfam (by omega) i fam ht
      have td := q6 k t' g1 g2
      unfold tdP at td
      rw [g3] at td
      rw [g4]
      exact td
  · obtain ⟨-, -, -, -, -, -, N0, hrn⟩ := id hf
    have c137 := ct_137 (r := itF d w e f) (zf := fun _ => (0, 0)) G L hrr hbd hd0 hw f97 f98 hrn hl1 hs1 rt m114 w34 w36 w38 w40 hx (fun y => absurd y iq)
    refine op_thr hI0 (kd := 80) (cf := code80) (Or.inl rfl) (by decide) (fun Q c hQ => ct_136 G (L.K 1 rfl) c hQ) (mj_Ct_mono c137 (fun o h' q => ⟨h, hs, q.1 iq⟩)) (fun h1 s1' => mj_Ct_mono (ct_227 G s1'.2.2.1 s1'.2.2.2.2.2.1.1.2.2 hbd hx (P := fun o h' => False) (fun y => absurd y iq) (fun y => absurd y iq) (fun o h' y => y.elim)) ?_)
    rintro o h' ⟨q1, -⟩
    obtain ⟨p1, p2, p3⟩ := q1 iq
    exact ⟨p1, p2, s1'.code p3⟩
end
