/-! operations that tell what both hold -/
section
variable {d w : Int} {n : Nat} {A : Nat → pI} {nxt : Nat → Nat} {cls : Nat → Int} {cnt : Nat} {nm : Nat → Nat}
theorem isMo.code {T : isTF d w n A nxt cls cnt nm} {ord : Fin cnt → Nat} {st : gS cnt} {ps : List Nat} {t u x6 x7 mn : Int} {f : Fm} {m c r wl : Nat} {fs : List Fam} {nb : Int} {ts : List Nat} {h h' : mj_H} (a : isMo T ord st ps t u x6 x7 mn f m c r wl fs nb ts h) (F : FrM iCo jF noT h h') : isMo T ord st ps t u x6 x7 mn f m c r wl fs nb ts h' := by
  obtain ⟨⟨a1, a2, a3, a4⟩, ⟨b1, b2, b3, b4, b5⟩, ⟨c1, ⟨c2, c3, c4⟩, c5, c6, c7⟩, ⟨d1, d2, d3, d4⟩, ⟨e1, e2, e3, e4⟩, ⟨g1, g2⟩, ⟨bo, ⟨q1, q2⟩, q3⟩, ok⟩ := a
  have kN : ∀ {i : Nat} {v : Int}, isN h i v → isN h' i v := fun q k hk => (F.I (by decide) (fun z => z) _).trans (q k hk)
  have kI : ∀ k, k ≠ 0 → hI h' 1412 k = hI h 1412 k := fun k hk => F.2.2.1 k hk
  have kJ : ∀ k, ¬ (50 ≤ k ∧ k ≤ 53) → hJ h' 1412 k = hJ h 1412 k := fun k hk => F.2.2.2 k hk
  have aI : ∀ (c k : Nat), c ≠ 1412 → hI h' c k = hI h c k := fun c k hc => F.I hc (fun z => z) k
  have aJ : ∀ (c k : Nat), c ≠ 1412 → hJ h' c k = hJ h c k := fun c k hc => F.J hc (fun z => z) k
  have kW : ∀ {j : Nat} {v : Int}, isTw h j v → isTw h' j v := fun q => ⟨(aI _ _ (by decide)).trans q.1, fun k hk => (aI _ _ (by decide)).trans (q.2 k hk)⟩
  refine ⟨⟨a1.M F (by omega) (by omega) (fun _ _ z => z), a2.M F (by omega) (fun z => z), a3.M F (by omega) (fun _ _ z => z), a4.M F (by omega) (fun z => z)⟩, ⟨kN b1, kN b2, kN b3, kN b4, (kI 19 (by decide)).trans b5⟩, ⟨⟨(kJ 20 (by omega)).trans c1.1, (kJ 21 (by omega)).trans c1.2.1, (kJ 22 (by omega)).trans c1.2.2⟩, ⟨(kI 23 (by decide)).trans c2, (kI 24 (by decide)).trans c3, (kI 26 (by decide)).trans c4⟩, fun i hi => (aJ _ _ (by decide)).trans (c5 i hi), fun hd => ⟨(kI 27 (by decide)).trans (c6 hd).1, fun i hi => ⟨(aI _ _ (by decide)).trans ((c6 hd).2 i hi).1, (aI _ _ (by decide)).trans ((c6 hd).2 i hi).2.1, (aI _ _ (by decide)).trans ((c6 hd).2 i hi).2.2⟩⟩, fun j hj => kN (c7 j hj)⟩, ⟨kN d1, kN d2, kN d3, kN d4⟩, ⟨(kI 34 (by decide)).trans e1, (kI 35 (by decide)).trans e2, e3, fun i t ht => ?_⟩, ⟨(kI 31 (by decide)).trans g1, fun i t ht => (aI _ _ (by decide)).trans (g2 i t ht)⟩, ⟨bo, ⟨(kJ 54 (by omega)).trans q1, (kJ 55 (by omega)).trans q2⟩, q3⟩, fun c hc => ?_⟩
  · obtain ⟨p1, p2, p3, p4⟩ := e4 i t ht
    exact ⟨(aI _ _ (by decide)).trans p1, (aI _ _ (by decide)).trans p2, kW p3, kW p4⟩
  · obtain ⟨v, v1, v2, v3⟩ := ok c hc
    exact ⟨v, v1, v2, (aI _ _ (by decide)).trans v3⟩
/-- the state, for given data -/
def isSt (xs : Nat → Int32) (Ln : Nat) (T : isTF d w n A nxt cls cnt nm) (ord : Fin cnt → Nat) (st : gS cnt) (ps : List Nat) (t u x6 x7 mn : Int) (f : Fm) (e c s1 s2 r wl : Nat) (fs : List Fam) (nb : Int) (ts : List Nat) (h : mj_H) : Prop := scr xs Ln h ∧ isLay h ∧ isLam h ∧ (1442 ≤ hT h ∧ hK h 1441 = 2 ∧ hN h 1441 = 1) ∧ isCo T ord st ps t u x6 x7 f e c s1 s2 fs nb ts h ∧ isMo T ord st ps t u x6 x7 mn f e c r wl fs nb ts h
variable {xs : Nat → Int32} {Ln : Nat} {T : isTF d w n A nxt cls cnt nm} {ord : Fin cnt → Nat} {st : gS cnt} {ps : List Nat} {t u x6 x7 mn : Int} {f : Fm} {e c s1 s2 r wl : Nat} {fs : List Fam} {nb : Int} {ts : List Nat}
theorem scr.S {h h' : mj_H} (a : scr xs Ln h) (s : sam h h' 0) : scr xs Ln h' := ⟨s.K.trans a.1, s.N.trans a.2.1, fun j => (s.I j).trans (a.2.2 j)⟩
theorem isSt.new {h : mj_H} (a : isSt xs Ln T ord st ps t u x6 x7 mn f e c s1 s2 r wl fs nb ts h) (kd n : Nat) : isSt xs Ln T ord st ps t u x6 x7 mn f e c s1 s2 r wl fs nb ts (hNew h kd n) := by
  obtain ⟨a1, a2, a3, ⟨a4, a5, a6⟩, a7, a8⟩ := a
  have sm : ∀ c, c < 1442 → sam h (hNew h kd n) c := fun c hc => sam_new (by omega)
  refine ⟨a1.S (sm 0 (by decide)), a2.new a4 kd n, a3.S (fun c _ h2 => sm c (by omega)), ⟨?_, (sm 1441 (by decide)).K.trans a5, (sm 1441 (by decide)).N.trans a6⟩, a7.S (fun c hc => sm c (by have := Rc_is hc; omega)), a8.S (fun c hc => sm c ?_)⟩
  · show 1442 ≤ hT h + 1
    omega
  · unfold Rm at hc
    simp only [Bool.and_eq_true, Nat.ble_eq, Nat.blt_eq] at hc
    omega
theorem isSt.out {h : mj_H} (a : isSt xs Ln T ord st ps t u x6 x7 mn f e c s1 s2 r wl fs nb ts h) (k : Nat) (v : Int64) : isSt xs Ln T ord st ps t u x6 x7 mn f e c s1 s2 r wl fs nb ts (sJ h 1441 k v) := by
  obtain ⟨a1, a2, a3, ⟨a4, a5, a6⟩, a7, a8⟩ := a
  have sm : ∀ c, c ≠ 1441 → sam h (sJ h 1441 k v) c := fun c hc => sam_J hc
  refine ⟨a1.S (sm 0 (by decide)), a2, a3.S (fun c _ h2 => sm c (by omega)), ⟨a4, a5, a6⟩, a7.S (fun c hc => sm c (by have := Rc_is hc; omega)), a8.S (fun c hc => sm c ?_)⟩
  unfold Rm at hc
  simp only [Bool.and_eq_true, Nat.ble_eq, Nat.blt_eq] at hc
  omega
/-- cells that no state lies in -/
def idle (S T : Nat → Prop) : Prop := (∀ x, S x → (54 ≤ x ∧ x ≤ 60) ∨ x = 113) ∧ ∀ x, ¬ T x
theorem isSt.F {S T' : Nat → Prop} {h h' : mj_H} (F : Fr S T' h h') (hi : idle S T') (a : isSt xs Ln T ord st ps t u x6 x7 mn f e c s1 s2 r wl fs nb ts h) : isSt xs Ln T ord st ps t u x6 x7 mn f e c s1 s2 r wl fs nb ts h' := by
  obtain ⟨a1, a2, a3, ⟨a4, a5, a6⟩, a7, a8⟩ := a
  have sm : ∀ c, ¬ ((54 ≤ c ∧ c ≤ 60) ∨ c = 113) → sam h h' c := fun c hc => sam_F F (fun z => hc (hi.1 c z)) (hi.2 c)
  refine ⟨a1.S (sm 0 (by decide)), a2.F F (fun x z => absurd z (hi.2 x)), a3.S (fun c _ h2 => sm c (by omega)), ⟨?_, (sm 1441 (by decide)).K.trans a5, (sm 1441 (by decide)).N.trans a6⟩, a7.S (fun c hc => sm c (by have := Rc_is hc; omega)), a8.S (fun c hc => sm c ?_)⟩
  · rw [F.T]
    exact a4
  · unfold Rm at hc
    simp only [Bool.and_eq_true, Nat.ble_eq, Nat.blt_eq] at hc
    omega
theorem isSt.code {h h' : mj_H} (F : FrM iCo jF noT h h') (a : isSt xs Ln T ord st ps t u x6 x7 mn f e c s1 s2 r wl fs nb ts h) : isSt xs Ln T ord st ps t u x6 x7 mn f e c s1 s2 r wl fs nb ts h' := by
  obtain ⟨a1, a2, a3, ⟨a4, a5, a6⟩, a7, a8⟩ := a
  have sm : ∀ c, c ≠ 1412 → sam h h' c := fun c hc => sam_M F hc (fun z => z)
  refine ⟨a1.S (sm 0 (by decide)), a2.F F.fr (fun _ z => z.elim), a3.F F.fr (fun _ z => z.elim), ⟨?_, (sm 1441 (by decide)).K.trans a5, (sm 1441 (by decide)).N.trans a6⟩, a7.S (fun c hc => sm c (by have := Rc_is hc; omega)), a8.code F⟩
  rw [F.fr.T]
  exact a4
/-- AN OPERATION OUT OF ITS TWO CONTRACTS -/
theorem op_of {G : mj_G} {I : mj_H → Prop} {h : mj_H} (hI0 : ∀ h', isSt xs Ln T ord st ps t u x6 x7 mn f e c s1 s2 r wl fs nb ts h' → I h') (hs : isSt xs Ln T ord st ps t u x6 x7 mn f e c s1 s2 r wl fs nb ts h) {jw jc jm kd : Nat} {av : List Value} {ok : Prop} {v : Int} {S T' : Nat → Prop} (hid : idle S T') (cw : ∀ Q, mj_Ct G (mj_mt jc) 1 6 (.ref 1 :: av) h Q → (∀ o1 h1, Q o1 h1 → wrQ (fun k => k = kd) o1 h1) → mj_Ct G (mj_mt jw) 1 6 (.ref 1 :: (av ++ [.ref 1441])) h (wrP code1 Q)) (cc : mj_Ct G (mj_mt jc) 1 6 (.ref 1 :: av) h (fun o h' => (ok → jC S T' v h o h') ∧ (¬ ok → jX S T' kd h o h'))) (cm : ∀ h1, isSt xs Ln T ord st ps t u x6 x7 mn f e c s1 s2 r wl fs nb ts h1 → mj_Ct G (mj_mt jm) 0 0 (.ref 1412 :: av) h1 (fun o h' => (ok → jB v 0 h1 o h') ∧ (¬ ok → jB 0 1 h1 o h'))) : op1 G I Ln xs jw jm av h := by
  refine ⟨_, cw _ cc ?_, ?_⟩
  · rintro o1 h1 ⟨q1, q2⟩
    by_cases z : ok
    · obtain ⟨e1, F⟩ := q1 z
      obtain ⟨-, -, -, ⟨-, b5, b6⟩, -⟩ := hs.F F hid
      exact Or.inl ⟨_, e1, b5, b6⟩
    · obtain ⟨g, F, e1, e2⟩ := q2 z
      refine Or.inr ⟨_, e1, ?_⟩
      rw [e2]
      exact congrArg Prod.fst (hNew_kt g kd 0)
  · rintro o h1 (⟨b, h0, ⟨q1, q2⟩, rfl, rfl⟩ | ⟨x, ⟨q1, q2⟩, rfl⟩)
    · have z : ok := Classical.byContradiction fun z => by
        obtain ⟨g, -, e1, -⟩ := q2 z
        cases e1
      obtain ⟨e1, F⟩ := q1 z
      have eb : b = jI v := by
        have : Outcome.returned (some (Value.int b)) = Outcome.returned (some (Value.int (jI v))) := e1
        injection this with e2
        injection e2 with e3
        injection e3
      have s1' := (hs.F F hid).out 0 b.toInt64
      have h12 := s1'.2.2.1.K 1412 rfl
      refine ⟨0, by omega, rfl, s1'.1, h12, _, cm _ s1', ?_⟩
      rintro o2 h2 ⟨p1, -⟩
      obtain ⟨f1, f2, f3⟩ := p1 z
      refine ⟨jI v, f1, hI0 _ (s1'.code f3), f2, fun _ => ?_⟩
      rw [f3.J (by decide) (fun z => z) 0, sJ_at, eb]
    · have z : ¬ ok := fun z => by
        obtain ⟨e1, -⟩ := q1 z
        cases e1
      obtain ⟨g, F, -, e2⟩ := q2 z
      have s1' := (hs.F F hid).new kd 0
      rw [← e2] at s1'
      have h12 := s1'.2.2.1.K 1412 rfl
      refine ⟨1, by omega, rfl, s1'.1, h12, _, cm _ s1', ?_⟩
      rintro o2 h2 ⟨-, p2⟩
      obtain ⟨f1, f2, f3⟩ := p2 z
      exact ⟨jI 0, f1, hI0 _ (s1'.code f3), f2, fun y => absurd y (by decide)⟩
end
