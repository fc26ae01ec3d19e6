/-! the operation tellers -/
section
variable {d w : Int} {n : Nat} {A : Nat → pI} {nxt : Nat → Nat} {cls : Nat → Int} {cnt : Nat} {nm : Nat → Nat}
variable {xs : Nat → Int32} {Ln : Nat} {T : isTF d w n A nxt cls cnt nm} {ord : Fin cnt → Nat} {st : gS cnt} {ps : List Nat} {t u x6 x7 mn : Int} {f : Fm} {e c s1 s2 r wl : Nat} {fs : List Fam} {nb : Int} {ts : List Nat}
variable {G : mj_G} {I : mj_H → Prop} {h : mj_H}
/-- the cells of the house that neither solve nor tellers change -/
def Rk (c : Nat) : Bool := Nat.beq c 7 || (Nat.ble 8 c && Nat.ble c 20) || (Nat.ble 30 c && Nat.ble c 35) || (Nat.ble 40 c && Nat.ble c 50) || (Nat.ble 52 c && Nat.ble c 53) || (Nat.ble 61 c && Nat.ble c 68) || (Nat.ble 97 c && Nat.ble c 111)
theorem Rk_of {c : Nat} (h : c = 7 ∨ (8 ≤ c ∧ c ≤ 20) ∨ (30 ≤ c ∧ c ≤ 35) ∨ (40 ≤ c ∧ c ≤ 50) ∨ (52 ≤ c ∧ c ≤ 53) ∨ (61 ≤ c ∧ c ≤ 68) ∨ (97 ≤ c ∧ c ≤ 111)) : Rk c = true := by
  unfold Rk
  simp only [Bool.or_eq_true, Bool.and_eq_true, Nat.ble_eq, Nat.beq_eq]
  omega
theorem Rk_is {c : Nat} (h : Rk c = true) : c = 7 ∨ (8 ≤ c ∧ c ≤ 20) ∨ (30 ≤ c ∧ c ≤ 35) ∨ (40 ≤ c ∧ c ≤ 50) ∨ (52 ≤ c ∧ c ≤ 53) ∨ (61 ≤ c ∧ c ≤ 68) ∨ (97 ≤ c ∧ c ≤ 111) := by
  unfold Rk at h
  simp only [Bool.or_eq_true, Bool.and_eq_true, Nat.ble_eq, Nat.beq_eq] at h
  omega
theorem isCo.chg {h' : mj_H} (a : isCo T ord st ps t u x6 x7 f e c s1 s2 fs nb ts h) (hs : ∀ c, Rk c = true → sam h h' c) (o : ∀ k, k = 8 ∨ k = 9 ∨ k = 10 → hI h' 1 k = hI h 1 k) (w36 : isW h' 36 (u * -f.2.2)) (w38 : isW h' 38 (u * f.1)) {fs' : List Fam} {nb' : Int} {ts' : List Nat} (cf' : isCf h' nb' fs') (tc' : isTc h' ts' ∧ ts'.length ≤ 4096) (m114 : isM0 h' 114) (rt : ∃ a b, isRt h' a b) : isCo T ord st ps t u x6 x7 f e c s1 s2 fs' nb' ts' h' := by
  obtain ⟨⟨t1, t2, t3, t4, ⟨t5, t6, t7, t8⟩, t9, t10⟩, ⟨⟨f97, f98⟩, m99, ⟨w1, w2, w3, w4⟩, i8, i9, i10⟩, -, -, -, -⟩ := a
  have k := fun (x : Nat) (hx : Rk x = true) => hs x hx
  have q1 : cut Rk h' = cut Rk h := cut_eq hs
  have g1 : isTB (cut Rk h) d w n A cls cnt nm ∧ isGs st (cut Rk h) ∧ isGr T ord (cut Rk h) ∧ isCh (cut Rk h) ps ∧ isFm (cut Rk h) 97 f ∧ isFm (cut Rk h) 98 (itF d w e f) := ⟨t1, t2, t3, t4, f97, f98⟩
  rw [← q1] at g1
  obtain ⟨u1, u2, u3, u4, u5, u6⟩ := g1
  have W := fun {x : Nat} {v : Int} (a : isW h x v) (e1 : Rk x = true) (e2 : Rk (x + 1) = true) => a.S (k x e1) (k (x + 1) e2)
  exact ⟨⟨u1, u2, u3, u4, ⟨W t5 rfl rfl, W t6 rfl rfl, W t7 rfl rfl, W t8 rfl rfl⟩, t9.S (fun x hx => k x (Rk_of (by omega))), t10.S (fun x hx => k x (Rk_of (by omega)))⟩, ⟨⟨u5, u6⟩, m99.S (fun x hx => k x (Rk_of (by omega))), ⟨W w1 rfl rfl, w36, w38, W w4 rfl rfl⟩, (o 8 (by omega)).trans i8, (o 9 (by omega)).trans i9, (o 10 (by omega)).trans i10⟩, cf', tc', m114, rt⟩
/-- what is to be known of the tellers of x -/
def tlX (d w : Int) (n : Nat) (A : Nat → pI) (cls : Nat → Int) (cnt : Nat) (x : Int) (ts' : List Nat) : Prop := okT d w x ∧ (∃ cf : Tr → Nat, (∀ t, t ∈ tAll d w x → tcOK n A cls cnt cf t) ∧ ts' = teL (hitC (tAll d w x) cf (tAll d w x).length) cnt) ∧ (∀ t, t ∈ tAll d w x → -2147483648 ≤ t.1 ∧ t.1 < 2147483648) ∧ ∃ cf : Nat → Nat, (∀ y, y < teY d x → prY d x y → teOK d w n A cls cnt x cf y) ∧ ts' = teL (hitK d x cf (teY d x)) cnt
theorem op_174 (htl : ∀ x, inQ x → ∃ ts', tlX d w n A cls cnt x ts' ∧ ∀ h', isSt xs Ln T ord st ps t u x6 x7 mn f e c s1 s2 r wl fs nb ts' h' → I h') (hd0 : d ≠ 0) (hI0 : ∀ h', isSt xs Ln T ord st ps t u x6 x7 mn f e c s1 s2 r wl fs nb ts h' → I h') (hs : isSt xs Ln T ord st ps t u x6 x7 mn f e c s1 s2 r wl fs nb ts h) (p : Int32) : op1 G I Ln xs 174 258 [.int p] h := by
  obtain ⟨x, rfl, hx⟩ := int_ex p
  obtain ⟨sc, L, M, ⟨hT4, k41, n41⟩, co, mo⟩ := id hs
  have hd := T.1.2.2.1
  have hw := T.1.2.2.2.1
  have hcn := T.1.2.2.2.2.2.1
  have hS := T.1.2.2.2.2.2.2.1
  obtain ⟨⟨t1, -⟩, hh, cf, -, m114, ra, rb, rt⟩ := id co
  have hbd : -1099511627776 < d ∧ d < 1099511627776 := by omega
  by_cases iq : inQ x
  · obtain ⟨ts', ⟨hok, ⟨cf1, hc1, e1⟩, hb1, cf2, hc2, e2⟩, hgo⟩ := htl x iq
    have lt : ts'.length ≤ 4096 := by
      rw [e1]
      exact Nat.le_trans (teL_len _ _) hcn
    have c175 := ct_175 G L T t1 rt hx (fun _ => hok) (fun _ => hc1) (fun _ => hb1)
    rw [← e1] at c175
    refine op_chg (v := ts'.length) hs (PC := fun h' => isCo T ord st ps t u x6 x7 f e c s1 s2 fs nb ts' h') (PM := fun h' => isMo T ord st ps t u x6 x7 mn f e c r wl fs nb ts' h') (fun h1 h2 q e => q.S e) (fun Q c hQ => ct_174 G (L.K 1 rfl) c hQ) (mj_Ct_mono c175 ?_) (fun h1 M1 mo1 => ?_) (fun h' q1 q2 q3 q4 q5 q6 => hgo h' ⟨q1, q2, q3, q4, q5, q6⟩)
    · rintro o h' ⟨-, q2⟩
      obtain ⟨q3, q4, q5, q6, F⟩ := q2 iq
      have sm : ∀ c, ¬ sTl c → sam h h' c := fun c hc => sam_F F hc (fun z => hc (by omega))
      refine ⟨q3, co.chg (fun c hc => sm c (by have := Rk_is hc; omega)) (fun k hk => q5 k (by omega)) (hh.2.2.1.2.1.S (sm _ (by omega)) (sm _ (by omega))) (hh.2.2.1.2.2.1.S (sm _ (by omega)) (sm _ (by omega))) ⟨(q5 19 (by omega)).trans cf.1, (q5 18 (by omega)).trans cf.2.1, cf.2.2.1, fun i t ht => ?_⟩ ⟨q4, lt⟩ (m114.S (fun x hx => sm x (by omega))) q6, fun x hx => sm x (by omega), F.T, L.F F (fun a z => by omega)⟩
      obtain ⟨b1, b2, b3⟩ := cf.2.2.2 i t ht
      exact ⟨((sm 128 (by omega)).I _).trans b1, ((sm 129 (by omega)).I _).trans b2, b3.S (fun x h1 h2 => sm x (by omega))⟩
    · obtain ⟨⟨a1, a2, a3, a4⟩, ⟨b1, b2, b3, b4, b5⟩, ⟨c1, ⟨c2, c3, c4⟩, c5, c6, c7⟩, ⟨d1, d2, d3, d4⟩, ⟨e1', e2', e3, e4⟩, -, ⟨bo, ⟨q1, q2⟩, q3⟩, ok⟩ := mo1
      have c258 := ct_258 G M1 a1.2.2 hbd hd0 hw a1.1 hS a1.2.1 hcn hx (fun _ => hc2)
      rw [← e2] at c258
      refine mj_Ct_mono c258 ?_
      rintro o h' ⟨-, p2⟩
      obtain ⟨p3, p4, te, F⟩ := p2 iq
      have kN : ∀ {i : Nat} {v : Int}, isN h1 i v → isN h' i v := fun q k hk => (F.I (by decide) (by omega) _).trans (q k hk)
      have kI : ∀ k, k ≠ 0 → k ≠ 31 → hI h' 1412 k = hI h1 1412 k := fun k hk hk' => F.2.2.1 k (by omega)
      have kJ : ∀ k, ¬ (50 ≤ k ∧ k ≤ 53) → hJ h' 1412 k = hJ h1 1412 k := fun k hk => F.2.2.2 k hk
      have aI : ∀ (c k : Nat), c ≠ 1412 → ¬ sTe c → hI h' c k = hI h1 c k := fun c k hc h9 => F.I hc h9 k
      have aJ : ∀ (c k : Nat), c ≠ 1412 → ¬ sTe c → hJ h' c k = hJ h1 c k := fun c k hc h9 => F.J hc h9 k
      have kW : ∀ {j : Nat} {v : Int}, isTw h1 j v → isTw h' j v := fun q => ⟨(aI _ _ (by decide) (by omega)).trans q.1, fun k hk => (aI _ _ (by decide) (by omega)).trans (q.2 k hk)⟩
      refine ⟨p3, ⟨⟨a1.M F (by omega) (by omega) (fun x hx => by omega), a2.M F (by omega) (by omega), a3.M F (by omega) (fun x hx => by omega), a4.M F (by omega) (by omega)⟩, ⟨kN b1, kN b2, kN b3, kN b4, (kI 19 (by decide) (by decide)).trans b5⟩, ⟨⟨(kJ 20 (by omega)).trans c1.1, (kJ 21 (by omega)).trans c1.2.1, (kJ 22 (by omega)).trans c1.2.2⟩, ⟨(kI 23 (by decide) (by decide)).trans c2, (kI 24 (by decide) (by decide)).trans c3, (kI 26 (by decide) (by decide)).trans c4⟩, fun i hi => (aJ _ _ (by decide) (by omega)).trans (c5 i hi), fun hd => ⟨(kI 27 (by decide) (by decide)).trans (c6 hd).1, fun i hi => ⟨(aI _ _ (by decide) (by omega)).trans ((c6 hd).2 i hi).1, (aI _ _ (by decide) (by omega)).trans ((c6 hd).2 i hi).2.1, (aI _ _ (by decide) (by omega)).trans ((c6 hd).2 i hi).2.2⟩⟩, fun j hj => kN (c7 j hj)⟩, ⟨kN d1, kN d2, kN d3, kN d4⟩, ⟨(kI 34 (by decide) (by decide)).trans e1', (kI 35 (by decide) (by decide)).trans e2', e3, fun i t ht => ?_⟩, te, ⟨bo, ⟨(kJ 54 (by omega)).trans q1, (kJ 55 (by omega)).trans q2⟩, q3⟩, fun c hc => ?_⟩, p4, fun x hx => sam_M F (by omega) (by omega), F.fr.T, F.lay M1⟩
      · obtain ⟨p1, p2, p3, p4⟩ := e4 i t ht
        exact ⟨(aI _ _ (by decide) (by omega)).trans p1, (aI _ _ (by decide) (by omega)).trans p2, kW p3, kW p4⟩
      · obtain ⟨v, v1, v2, v3⟩ := ok c hc
        exact ⟨v, v1, v2, (aI _ _ (by decide) (by omega)).trans v3⟩
  · have c175 := ct_175 (cf := fun _ => 0) G L T t1 rt hx (fun y => absurd y iq) (fun y => absurd y iq) (fun y => absurd y iq)
    exact op_of (kd := 80) (ok := inQ x) (v := 0) hI0 hs idle0 (fun Q c hQ => ct_174 G (L.K 1 rfl) c hQ) (mj_Ct_mono c175 (fun o h' q => ⟨fun y => absurd y iq, fun y => ⟨h, Fr.refl _ _ _, (q.1 y).1, (q.1 y).2⟩⟩)) (fun h1 s1' => mj_Ct_mono (ct_258 (cf := fun _ => 0) G s1'.2.2.1 s1'.2.2.2.2.2.1.1.2.2 hbd hd0 hw s1'.2.2.2.2.2.1.1.1 hS s1'.2.2.2.2.2.1.1.2.1 hcn hx (fun y => absurd y iq)) (fun o h' q => ⟨fun y => absurd y iq, q.1⟩))
end
