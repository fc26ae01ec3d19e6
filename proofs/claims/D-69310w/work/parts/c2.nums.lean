/-! operations that tell numbers -/
section
variable {d w : Int} {n : Nat} {A : Nat → pI} {nxt : Nat → Nat} {cls : Nat → Int} {cnt : Nat} {nm : Nat → Nat}
theorem isMo.tell {T : isTF d w n A nxt cls cnt nm} {ord : Fin cnt → Nat} {st : gS cnt} {ps : List Nat} {t u x6 x7 mn : Int} {f : Fm} {m c r wl : Nat} {fs : List Fam} {nb : Int} {ts : List Nat} {h h' : mj_H} (a : isMo T ord st ps t u x6 x7 mn f m c r wl fs nb ts h) (F0 : FrT h h') : isMo T ord st ps t u x6 x7 mn f m c r wl fs nb ts h' := by
  obtain ⟨F, F9⟩ := F0
  obtain ⟨⟨a1, a2, a3, a4⟩, ⟨b1, b2, b3, b4, b5⟩, ⟨c1, ⟨c2, c3, c4⟩, c5, c6, c7⟩, ⟨d1, d2, d3, d4⟩, ⟨e1, e2, e3, e4⟩, ⟨g1, g2⟩, ⟨bo, ⟨q1, q2⟩, q3⟩, ok⟩ := a
  have kN : ∀ {i : Nat} {v : Int}, i < 12 → isN h i v → isN h' i v := fun hi q k hk => (F9 _ (by omega)).trans (q k hk)
  have kI : ∀ k, k ≠ 0 → hI h' 1412 k = hI h 1412 k := fun k hk => F.2.2.1 k hk
  have kJ : ∀ k, hJ h' 1412 k = hJ h 1412 k := fun k => F.2.2.2 k (fun z => z)
  have aI : ∀ (c k : Nat), c ≠ 1412 → c ≠ 1439 → hI h' c k = hI h c k := fun c k hc h9 => F.I hc h9 k
  have aJ : ∀ (c k : Nat), c ≠ 1412 → c ≠ 1439 → hJ h' c k = hJ h c k := fun c k hc h9 => F.J hc h9 k
  have kW : ∀ {j : Nat} {v : Int}, isTw h j v → isTw h' j v := fun q => ⟨(aI _ _ (by decide) (by decide)).trans q.1, fun k hk => (aI _ _ (by decide) (by decide)).trans (q.2 k hk)⟩
  refine ⟨⟨a1.M F (by omega) ⟨fun z => z, fun z => z⟩ (fun x hx => by omega), a2.M F (by omega) (by omega), a3.M F (by omega) (fun x hx => by omega), a4.M F (by omega) (by omega)⟩, ⟨kN (by decide) b1, kN (by decide) b2, kN (by decide) b3, kN (by decide) b4, (kI 19 (by decide)).trans b5⟩, ⟨⟨(kJ 20).trans c1.1, (kJ 21).trans c1.2.1, (kJ 22).trans c1.2.2⟩, ⟨(kI 23 (by decide)).trans c2, (kI 24 (by decide)).trans c3, (kI 26 (by decide)).trans c4⟩, fun i hi => (aJ _ _ (by decide) (by decide)).trans (c5 i hi), fun hd => ⟨(kI 27 (by decide)).trans (c6 hd).1, fun i hi => ⟨(aI _ _ (by decide) (by decide)).trans ((c6 hd).2 i hi).1, (aI _ _ (by decide) (by decide)).trans ((c6 hd).2 i hi).2.1, (aI _ _ (by decide) (by decide)).trans ((c6 hd).2 i hi).2.2⟩⟩, fun j hj => kN (by omega) (c7 j hj)⟩, ⟨kN (by decide) d1, kN (by decide) d2, kN (by decide) d3, kN (by decide) d4⟩, ⟨(kI 34 (by decide)).trans e1, (kI 35 (by decide)).trans e2, e3, fun i t ht => ?_⟩, ⟨(kI 31 (by decide)).trans g1, fun i t ht => (aI _ _ (by decide) (by decide)).trans (g2 i t ht)⟩, ⟨bo, ⟨(kJ 54).trans q1, (kJ 55).trans q2⟩, q3⟩, fun c hc => ?_⟩
  · obtain ⟨p1, p2, p3, p4⟩ := e4 i t ht
    exact ⟨(aI _ _ (by decide) (by decide)).trans p1, (aI _ _ (by decide) (by decide)).trans p2, kW p3, kW p4⟩
  · obtain ⟨v, v1, v2, v3⟩ := ok c hc
    exact ⟨v, v1, v2, (aI _ _ (by decide) (by decide)).trans v3⟩
variable {xs : Nat → Int32} {Ln : Nat} {T : isTF d w n A nxt cls cnt nm} {ord : Fin cnt → Nat} {st : gS cnt} {ps : List Nat} {t u x6 x7 mn : Int} {f : Fm} {e c s1 s2 r wl : Nat} {fs : List Fam} {nb : Int} {ts : List Nat}
variable {G : mj_G} {I : mj_H → Prop} {h : mj_H}
theorem isSt.tell {h h' : mj_H} (F : FrT h h') (a : isSt xs Ln T ord st ps t u x6 x7 mn f e c s1 s2 r wl fs nb ts h) : isSt xs Ln T ord st ps t u x6 x7 mn f e c s1 s2 r wl fs nb ts h' := by
  obtain ⟨a1, a2, a3, ⟨a4, a5, a6⟩, a7, a8⟩ := a
  have sm : ∀ c, c ≠ 1412 → c ≠ 1439 → sam h h' c := fun c hc h9 => sam_M F.1 hc h9
  refine ⟨a1.S (sm 0 (by decide) (by decide)), a2.F F.1.fr (fun _ z => z.elim), a3.F F.1.fr (fun _ z => z.elim), ⟨?_, (sm 1441 (by decide) (by decide)).K.trans a5, (sm 1441 (by decide) (by decide)).N.trans a6⟩, a7.S (fun c hc => sm c (by have := Rc_is hc; omega) (by have := Rc_is hc; omega)), a8.tell F⟩
  rw [F.1.fr.T]
  exact a4
/-- an operation out of its two contracts, where the model uses its spare row; b: which of its codes a thrown kind gives -/
theorem op_ofT {h : mj_H} (hI0 : ∀ h', isSt xs Ln T ord st ps t u x6 x7 mn f e c s1 s2 r wl fs nb ts h' → I h') (hs : isSt xs Ln T ord st ps t u x6 x7 mn f e c s1 s2 r wl fs nb ts h) {jw jc jm kd : Nat} {av : List Value} {ok : Prop} {v : Int} {kP : Nat → Prop} {cf : Nat → Int} (hkd : kP kd) (hcf : 0 < cf kd ∧ cf kd ≤ 2) (cw : ∀ Q, mj_Ct G (mj_mt jc) 1 6 (.ref 1 :: av) h Q → (∀ o1 h1, Q o1 h1 → wrQ kP o1 h1) → mj_Ct G (mj_mt jw) 1 6 (.ref 1 :: (av ++ [.ref 1441])) h (wrP cf Q)) (cc : mj_Ct G (mj_mt jc) 1 6 (.ref 1 :: av) h (fun o h' => (ok → jC noT noT v h o h') ∧ (¬ ok → jX noT noT kd h o h'))) (cm : ∀ h1, isSt xs Ln T ord st ps t u x6 x7 mn f e c s1 s2 r wl fs nb ts h1 → mj_Ct G (mj_mt jm) 0 0 (.ref 1412 :: av) h1 (fun o h' => (ok → jA v 0 h1 o h') ∧ (¬ ok → jA 0 (cf kd) h1 o h'))) : op1 G I Ln xs jw jm av h := by
  have hid : idle noT noT := idle0
  refine ⟨_, cw _ cc ?_, ?_⟩
  · rintro o1 h1 ⟨q1, q2⟩
    by_cases z : ok
    · obtain ⟨e1, F⟩ := q1 z
      obtain ⟨-, -, -, ⟨-, b5, b6⟩, -⟩ := hs.F F hid
      exact Or.inl ⟨_, e1, b5, b6⟩
    · obtain ⟨g, F, e1, e2⟩ := q2 z
      refine Or.inr ⟨_, e1, ?_⟩
      rw [e2, show hK (hNew g kd 0) (hT g) = kd from congrArg Prod.fst (hNew_kt g kd 0)]
      exact hkd
  · rintro o h1 (⟨b, h0, ⟨q1, q2⟩, rfl, rfl⟩ | ⟨x, ⟨q1, q2⟩, rfl⟩)
    · have z : ok := Classical.byContradiction fun z => by
        obtain ⟨g, -, e1, -⟩ := q2 z
        cases e1
      obtain ⟨e1, F⟩ := q1 z
      have eb : b = jI v := by
        have : Outcome.returned (some (Value.int b)) = Outcome.returned (some (Value.int (jI v))) := e1
        injection this with e2
        injection e2 with e3
        injection e3
      have s1' := (hs.F F hid).out 0 b.toInt64
      have h12 := s1'.2.2.1.K 1412 rfl
      refine ⟨0, by omega, rfl, s1'.1, h12, _, cm _ s1', ?_⟩
      rintro o2 h2 ⟨p1, -⟩
      obtain ⟨f1, f2, f3⟩ := p1 z
      refine ⟨jI v, f1, hI0 _ (s1'.tell f3), f2, fun _ => ?_⟩
      rw [f3.1.J (by decide) (by decide) 0, sJ_at, eb]
    · have z : ¬ ok := fun z => by
        obtain ⟨e1, -⟩ := q1 z
        cases e1
      obtain ⟨g, F, e1, e2⟩ := q2 z
      have ex : x = hT g := by
        have : Outcome.threw x = Outcome.threw (hT g) := e1
        injection this
      have s1' := (hs.F F hid).new kd 0
      rw [← e2] at s1'
      have h12 := s1'.2.2.1.K 1412 rfl
      have ek : hK h1 x = kd := by
        rw [e2, ex]
        exact congrArg Prod.fst (hNew_kt g kd 0)
      refine ⟨cf kd, by omega, by rw [ek], s1'.1, h12, _, cm _ s1', ?_⟩
      rintro o2 h2 ⟨-, p2⟩
      obtain ⟨f1, f2, f3⟩ := p2 z
      exact ⟨jI 0, f1, hI0 _ (s1'.tell f3), f2, fun y => absurd y (by omega)⟩
/-- the numbers of the house -/
def vC (f : Fm) (t u x6 x7 : Int) : Nat → Int
  | 0 => t
  | 1 => u
  | 2 => (t - u * f.2.1).tdiv 2
  | 3 => u * -f.2.2
  | 4 => u * f.1
  | 5 => (t + u * f.2.1).tdiv 2
  | 6 => x6
  | _ => x7
def pC (fs : List Fam) (j : Nat) : xI := ((fs.getD j (0, 0, 0, 0)).2.2.1, (fs.getD j (0, 0, 0, 0)).2.2.2)
/-- the numbers of the model -/
def nuM (W : Nat → Int) (f : Fm) (t u x6 x7 : Int) (fs : List Fam) : Nat → Int
  | 0 => W 0
  | 1 => W 1
  | 2 => W 2
  | 3 => W 3
  | 4 => t
  | 5 => u
  | 6 => x6
  | 7 => x7
  | 8 => (1 * t + -f.2.1 * u) / 2
  | 9 => -f.2.2 * u
  | 10 => f.1 * u
  | 11 => (1 * t + f.2.1 * u) / 2
  | i + 12 => if i % 2 = 0 then (pC fs (i / 2)).1 else (pC fs (i / 2)).2
theorem isCo.nu {h : mj_H} (a : isCo T ord st ps t u x6 x7 f e c s1 s2 fs nb ts h) : isNu h (itM d w s2 (itF d w e f) (itM d w s1 f (1, 0, 0, 1))) (vC f t u x6 x7) fs.length (pC fs) := by
  obtain ⟨⟨t1, t2, t3, t4, ⟨t5, t6, t7, t8⟩, t9, t10⟩, ⟨⟨f97, f98⟩, m99, ⟨w1, w2, w3, w4⟩, i8, i9, i10⟩, ⟨cf1, cf2, cf3, cf4⟩, -⟩ := a
  exact ⟨m99, ⟨t5, t6, w1, w2, w3, w4, t7, t8⟩, ⟨cf2, cf3⟩, fun j hj => (fam_at cf4 j hj).2.2⟩
theorem isMo.tn {m : Nat} {h : mj_H} (a : isMo T ord st ps t u x6 x7 mn f m c r wl fs nb ts h) (hr : ∀ j, j < 12 → inR (nuM (wyR (tnF d w f) wl) f t u x6 x7 fs j)) : ∀ j, j < 12 + 2 * fs.length → isTn h j (nuM (wyR (tnF d w f) wl) f t u x6 x7 fs j) := by
  obtain ⟨-, ⟨b1, b2, b3, b4, b5⟩, ⟨-, -, -, -, c7⟩, ⟨d1, d2, d3, d4⟩, ⟨e1, e2, e3, e4⟩, -⟩ := a
  intro j hj
  refine ⟨fun h12 => ⟨?_, hr j h12⟩, fun h12 => ?_⟩
  · match j, h12 with
    | 0, _ => exact c7 0 (by decide)
    | 1, _ => exact c7 1 (by decide)
    | 2, _ => exact c7 2 (by decide)
    | 3, _ => exact c7 3 (by decide)
    | 4, _ => exact b1
    | 5, _ => exact b2
    | 6, _ => exact b3
    | 7, _ => exact b4
    | 8, _ => exact d1
    | 9, _ => exact d2
    | 10, _ => exact d3
    | 11, _ => exact d4
    | j + 12, h9 => exact absurd h9 (by omega)
  · obtain ⟨k, hk⟩ : ∃ k, j = k + 12 := ⟨j - 12, by omega⟩
    subst hk
    obtain ⟨-, -, w1, w2⟩ := fam_at e4 (k / 2) (by omega)
    rw [show k + 12 - 12 = k by omega]
    show isTw h k (if k % 2 = 0 then (pC fs (k / 2)).1 else (pC fs (k / 2)).2)
    by_cases z : k % 2 = 0
    · rw [if_pos z, show k = 2 * (k / 2) by omega, show 2 * (k / 2) / 2 = k / 2 by omega]
      exact w1
    · rw [if_neg z]
      have e9 : k = 2 * (k / 2) + 1 := by omega
      rw [show isTw h k (pC fs (k / 2)).2 = isTw h (2 * (k / 2) + 1) (pC fs (k / 2)).2 by rw [← e9]]
      exact w2
/-- both have the same numbers -/
def nuE (m : mxI) (W : Nat → Int) (f : Fm) (t u x6 x7 : Int) : Prop := ∀ (fs : List Fam) (j : Nat), (if j = 1 ∨ j = 2 then -(nuV m (vC f t u x6 x7) (pC fs) j) else nuV m (vC f t u x6 x7) (pC fs) j) = nuM W f t u x6 x7 fs j
theorem op_178 (hE : nuE (itM d w s2 (itF d w e f) (itM d w s1 f (1, 0, 0, 1))) (wyR (tnF d w f) wl) f t u x6 x7) (hr : ∀ j, j < 12 → inR (nuM (wyR (tnF d w f) wl) f t u x6 x7 fs j)) (hI0 : ∀ h', isSt xs Ln T ord st ps t u x6 x7 mn f e c s1 s2 r wl fs nb ts h' → I h') (hs : isSt xs Ln T ord st ps t u x6 x7 mn f e c s1 s2 r wl fs nb ts h) (p : Int32) : op1 G I Ln xs 178 279 [.int p] h := by
  obtain ⟨i, rfl, hi⟩ := int_ex p
  have c1 := ct_179 G hs.2.1 hs.2.2.2.2.1.nu hi
  refine op_ofT (kd := 81) (ok := 0 ≤ i ∧ i < 12 + 2 * (fs.length : Int)) (v := (nuM (wyR (tnF d w f) wl) f t u x6 x7 fs i.toNat).sign) (kP := fun k => k = 81) (cf := code1) hI0 hs rfl ⟨by decide, by decide⟩ (fun Q c hQ => ct_178 G (hs.2.1.K 1 rfl) c hQ) (mj_Ct_mono c1 (fun o h' q => ⟨fun y => ?_, q.2⟩)) (fun h1 s1' => mj_Ct_mono (ct_279 G s1'.2.2.1 s1'.2.2.2.2.2.2.2.2.2.1.2.1 s1'.2.2.2.2.2.2.2.2.2.1.2.2.1 hi (s1'.2.2.2.2.2.tn hr)) (fun o h' q => ?_))
  · have q1 := q.1 y
    have e1 : tnS i (nuV (itM d w s2 (itF d w e f) (itM d w s1 f (1, 0, 0, 1))) (vC f t u x6 x7) (pC fs) i.toNat).sign = (nuM (wyR (tnF d w f) wl) f t u x6 x7 fs i.toNat).sign := by
      rw [← hE fs i.toNat]
      unfold tnS
      by_cases z : i = 1 ∨ i = 2
      · rw [if_pos z, if_pos (by omega), Int.sign_neg]
      · rw [if_neg z, if_neg (by omega)]
    rw [e1] at q1
    exact q1
  · by_cases z : 0 ≤ i ∧ i < 12 + 2 * (fs.length : Int)
    · rw [if_pos z] at q
      exact ⟨fun _ => q, fun y => absurd z y⟩
    · rw [if_neg z] at q
      exact ⟨fun y => absurd y z, fun _ => q⟩
end
