/-! the invariant, and the law's run out of pure facts -/
section
variable {d w : Int} {n : Nat} {A : Nat → pI} {nxt : Nat → Nat} {cls : Nat → Int} {cnt : Nat} {nm : Nat → Nat}
/-- what is to be known of a form at hand -/
def foP (d w t u x6 x7 : Int) (f : Fm) (e s1 s2 r wl : Nat) : Prop := (s1 : Int) + s2 = (wl : Nat) ∧ nuE (itM d w s2 (itF d w e f) (itM d w s1 f (1, 0, 0, 1))) (wyR (tnF d w f) wl) f t u x6 x7 ∧ (∀ fs j, j < 12 → inR (nuM (wyR (tnF d w f) wl) f t u x6 x7 fs j)) ∧ (∀ j, j < 12 → ((nuM (wyR (tnF d w f) wl) f t u x6 x7 [] j).natAbs : Int) < pB 1024) ∧ soF d w f e s1 r ∧ ∀ x, inQ x → ∃ fs', slX d w t u f e s1 r x fs' ∧ (fs'.length ≤ 256 → ∀ j, j < 12 + 2 * fs'.length → ((nuM (wyR (tnF d w f) wl) f t u x6 x7 fs' j).natAbs : Int) < pB 1024)
/-- what is to be known of a discriminant, beside bgP -/
def diP (T : isTF d w n A nxt cls cnt nm) (ord : Fin cnt → Nat) (st : gS cnt) (ps : List Nat) (t u x6 x7 mn : Int) : Prop := (d ≠ 0 ∧ wdP d w ∧ isFr d A cnt nm) ∧ (∀ x, (isOrd (mulC T) (oneC T) x (ord x) ∧ ord x ≤ 4096) ∧ 0 < ord x) ∧ (∀ y : Fin cnt, y ∈ st.1) ∧ (x7.sign = mn ∧ (mn = 0 ∨ mn = 1)) ∧ ((∀ p, p ∈ ps → Pr p ∧ p % 2 = 1 ∧ p ≤ 1048576) ∧ (∀ p, p ∈ ps → (p : Int) ∣ d) ∧ (∀ c p, c < cnt → p ∈ ps → fr7 (nmF d A nm c) (p : Nat)) ∧ ∀ c, c < cnt → (nmF d A nm c).2.2.natAbs ≤ 1048576) ∧ (∀ F : Fm, akP d F.1 F.2.1 F.2.2 → ∃ (e' c0 s1' s2' r' wl' k i0 : Nat) (pl : Nat → Nat), seP d w n A cls cnt nm t u F e' c0 s1' s2' ∧ hdP d w n A cls cnt nm F e' k c0 r' i0 pl wl' ∧ inR (1 * t + -F.2.1 * u) ∧ inR (1 * t + F.2.1 * u) ∧ foP d w t u x6 x7 F e' s1' s2' r' wl') ∧ ∀ x, inQ x → ∃ ts', tlX d w n A cls cnt x ts'
end
/-- all that is to be known of a discriminant -/
def knP (d : Int) : Prop := ∃ (w : Int) (n : Nat) (A : Nat → pI) (nxt : Nat → Nat) (cls : Nat → Int) (cnt : Nat) (nm : Nat → Nat) (T : isTF d w n A nxt cls cnt nm) (ord : Fin cnt → Nat) (st : gS cnt) (ps : List Nat) (t u x6 x7 mn : Int) (e s1 s2 r wl : Nat), bgP T ord st ps t u x6 x7 mn e s1 s2 r wl ∧ diP T ord st ps t u x6 x7 mn ∧ foP d w t u x6 x7 (prF d) e s1 s2 r wl
/-- THE INVARIANT -/
def lwI (xs : Nat → Int32) (Ln : Nat) (h : mj_H) : Prop := ∃ (d w : Int) (n : Nat) (A : Nat → pI) (nxt : Nat → Nat) (cls : Nat → Int) (cnt : Nat) (nm : Nat → Nat) (T : isTF d w n A nxt cls cnt nm) (ord : Fin cnt → Nat) (st : gS cnt) (ps : List Nat) (t u x6 x7 mn : Int) (f : Fm) (e c s1 s2 r wl : Nat) (fs : List Fam) (nb : Int) (ts : List Nat), diP T ord st ps t u x6 x7 mn ∧ foP d w t u x6 x7 f e s1 s2 r wl ∧ (∀ j, j < 12 + 2 * fs.length → ((nuM (wyR (tnF d w f) wl) f t u x6 x7 fs j).natAbs : Int) < pB 1024) ∧ isSt xs Ln T ord st ps t u x6 x7 mn f e c s1 s2 r wl fs nb ts h
theorem lwI_i (xs : Nat → Int32) (Ln : Nat) : lawI (lwI xs Ln) Ln xs := by
  rintro h ⟨d, w, n, A, nxt, cls, cnt, nm, T, ord, st, ps, t, u, x6, x7, mn, f, e, c, s1, s2, r, wl, fs, nb, ts, -, -, -, sc, L, M, ⟨-, k41, n41⟩, -⟩
  exact ⟨sc, L.K 1 rfl, M.K 1412 rfl, k41, n41⟩
theorem lwI_ops (H : ∀ d, tkP d → knP d) (G : mj_G) (xs : Nat → Int32) (Ln : Nat) : lawOps G (lwI xs Ln) Ln xs := by
  rintro h ⟨d, w, n, A, nxt, cls, cnt, nm, T, ord, st, ps, t, u, x6, x7, mn, f, e, c, s1, s2, r, wl, fs, nb, ts, hD, hF, hB, hs⟩ p0 p1 p2
  have hI0 : ∀ h', isSt xs Ln T ord st ps t u x6 x7 mn f e c s1 s2 r wl fs nb ts h' → lwI xs Ln h' := fun h' s => ⟨d, w, n, A, nxt, cls, cnt, nm, T, ord, st, ps, t, u, x6, x7, mn, f, e, c, s1, s2, r, wl, fs, nb, ts, hD, hF, hB, s⟩
  obtain ⟨⟨hd0, hwd, hfr⟩, ho, hall, hmn, ⟨hpp, hpd, hf7, hbd⟩, hask, htl⟩ := id hD
  obtain ⟨hwl, hE, hr, hb0, hso, hsol⟩ := id hF
  refine ⟨op_cnt hmn hwl hI0 hs p0, op_97 ?_ hI0 hs p0, op_102 hI0 hs p0 p1, op_108 hwd hfr hI0 hs p0 p1, op_110 hwd hI0 hs p0, op_112 hwd hfr (fun x => (ho x).1) (fun x => ⟨(ho x).2, (ho x).1.2⟩) hI0 hs p0 p1, op_114 hI0 hs p0, op_116 hI0 hs p0, op_118 hall hI0 hs p0 p1, op_120 hI0 hs p0, op_122 hpp hpd hf7 hbd hI0 hs p0 p1, op_125 hI0 hs p0, op_130 hwd ?_ hI0 hs p0 p1 p2, op_134 hI0 hs p0, op_136 hd0 hso ?_ hI0 hs p0, op_170 hI0 hs p0, op_172 hI0 hs p0, op_174 ?_ hd0 hI0 hs p0, op_176 hI0 hs p0, op_178 hE (hr fs) hI0 hs p0, op_182 hE (hr fs) hB hI0 hs p0, op_185 hE (hr fs) hI0 hs p0 p1, op_187 hE (hr fs) hB hI0 hs p0 p1⟩
  · intro v tk
    obtain ⟨w', n', A', nxt', cls', cnt', nm', T', ord', st', ps', t', u', x6', x7', mn', e', s1', s2', r', wl', B, D, Fo⟩ := H v tk
    exact ⟨w', n', A', nxt', cls', cnt', nm', T', ord', st', ps', t', u', x6', x7', mn', e', s1', s2', r', wl', B, fun h' s => ⟨v, w', n', A', nxt', cls', cnt', nm', T', ord', st', ps', t', u', x6', x7', mn', prF v, e', _, s1', s2', r', wl', [], 0, [], D, Fo, Fo.2.2.2.1, s⟩⟩
  · intro F ak
    obtain ⟨e', c0, s1', s2', r', wl', k, i0, pl, a1, a2, a3, a4, a5⟩ := hask F ak
    exact ⟨e', c0, s1', s2', r', wl', k, i0, pl, a1, a2, a3, a4, fun h' s => ⟨d, w, n, A, nxt, cls, cnt, nm, T, ord, st, ps, t, u, x6, x7, mn, F, e', c0, s1', s2', r', wl', [], 0, ts, hD, a5, a5.2.2.2.1, s⟩⟩
  · intro x iq
    obtain ⟨fs', a1, a2⟩ := hsol x iq
    exact ⟨fs', a1, fun hl h' s => ⟨d, w, n, A, nxt, cls, cnt, nm, T, ord, st, ps, t, u, x6, x7, mn, f, e, c, s1, s2, r, wl, fs', x, ts, hD, hF, a2 hl, s⟩⟩
  · intro x iq
    obtain ⟨ts', a1⟩ := htl x iq
    exact ⟨ts', a1, fun h' s => ⟨d, w, n, A, nxt, cls, cnt, nm, T, ord, st, ps, t, u, x6, x7, mn, f, e, c, s1, s2, r, wl, fs, nb, ts', hD, hF, hB, s⟩⟩
theorem tk4 : tkP (-4) := ⟨by decide, Or.inl (by decide), fun k hk => by
  have := sqn k
  omega⟩
/-- THE LAW RUNS, if all is known of every discriminant -/
theorem lawRuns_of (H : ∀ d, tkP d → knP d) : lawRuns := by
  intro G hL Run hR
  obtain ⟨w, n, A, nxt, cls, cnt, nm, T, ord, st, ps, t, u, x6, x7, mn, e, s1, s2, r, wl, B, D, Fo⟩ := H (-4) tk4
  have c0 : Cb (gx G, gL G) 1 (fun _ _ => False) (h00 (gL G) (gx G)) := by
    refine ⟨rfl, fun c hc => ?_, fun _ _ _ _ z => z.elim, by decide, ?_, rfl⟩
    · have : c = 0 := by omega
      subst this
      exact ⟨rfl, Or.inl rfl⟩
    · funext k
      show (if (0 : Nat) = 0 then gx G k else 0) = gx G k
      rw [if_pos rfl]
  refine law_all G (I := lwI (gx G) (gL G)) (lwI_i _ _) hL (lwI_ops H G _ _) hR c0 (PC := fun h' => isCo T ord st ps t u x6 x7 (prF (-4)) e (oneC T).val s1 s2 [] 0 [] h' ∧ isLay h' ∧ Cb (gx G, gL G) 1412 (fun _ _ => False) h') (fun h' c => ?_) (fun h' p => p.2.2) (PM := fun h' => isCo T ord st ps t u x6 x7 (prF (-4)) e (oneC T).val s1 s2 [] 0 [] h' ∧ isMo T ord st ps t u x6 x7 mn (prF (-4)) e (oneC T).val r wl [] 0 [] h' ∧ isLay h' ∧ isLam h' ∧ scr (gx G) (gL G) h' ∧ hT h' = 1441) (fun h1 h' p c m z => ?_) (fun h' p => ⟨p.2.2.2.2.2, ?_⟩) (by decide) (by decide)
  · obtain ⟨L, m8, m99, m114, rt⟩ := c.lay
    refine mj_Ct_mono (bg_co (G := G) L m8 m99 m114 rt B) ?_
    rintro o h'' ⟨q1, q2, F⟩
    have L' := L.F F (fun a z => by omega)
    have s0 : sam h' h'' 0 := sam_F F (by omega) (by omega)
    exact ⟨q1, q2, L', Cb.ofLay L' (F.T.trans c.1) ⟨s0.1.trans c.2.2.2.2.1, s0.N.trans c.2.2.2.2.2⟩⟩
  · obtain ⟨co, L, c1⟩ := p
    have M : isLam h' := c.lam (fun y => Or.inl rfl)
    have sm1 : ∀ x, x < 1412 → sam h1 h' x := fun x hx => m.1 x hx
    have bo : isBo h' := ⟨(0, 0), ⟨m.2.1, m.2.2⟩, ⟨by decide, by decide⟩, by decide, by decide⟩
    have ok : isOK h' := fun c hc => ⟨0, by decide, by decide, z c⟩
    refine mj_Ct_mono (bg_mo (G := G) M bo ok B) ?_
    rintro o h'' ⟨q1, q2, F⟩
    have sm2 : ∀ x, x < 1412 → sam h1 h'' x := fun x hx => (sm1 x hx).trans (sam_M F (by omega) (by omega))
    refine ⟨q1, co.S (fun c hc => sm2 c (by have := Rc_is hc; omega)), q2, L.S sm2, F.lay M, ?_, F.fr.T.trans c.1⟩
    have s0 := sm2 0 (by omega)
    refine ⟨s0.K.trans (c1.2.1 0 (by decide)).1, s0.N.trans c1.2.2.2.2.2, fun j => (s0.I j).trans (congrFun c1.2.2.2.2.1 j)⟩
  · obtain ⟨co, mo, L, M, sc, ht⟩ := p
    have sm : ∀ x, x < 1441 → sam h' (hNew h' 2 1) x := fun x hx => sam_new (by omega)
    have kt := hNew_kt h' 2 1
    rw [ht] at kt
    refine ⟨-4, w, n, A, nxt, cls, cnt, nm, T, ord, st, ps, t, u, x6, x7, mn, prF (-4), e, _, s1, s2, r, wl, [], 0, [], D, Fo, Fo.2.2.2.1, sc.S (sm 0 (by decide)), L.S (fun x hx => sm x (by omega)), M.S (fun c h1 h2 => sm c h2), ⟨?_, congrArg Prod.fst kt, congrArg Prod.snd kt⟩, co.S (fun c hc => sm c (by have := Rc_is hc; omega)), mo.S (fun c hc => sm c ?_)⟩
    · show 1442 ≤ hT h' + 1
      omega
    · unfold Rm at hc
      simp only [Bool.and_eq_true, Nat.ble_eq, Nat.blt_eq] at hc
      omega
theorem i_vc_ofAll (H : ∀ d, tkP d → knP d) : Claimed_1_1 ∧ Claimed_1_2 := i_vc_of (lawRuns_of H)
