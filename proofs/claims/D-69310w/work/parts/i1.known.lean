/-! ALL THAT IS TO BE KNOWN OF A DISCRIMINANT -/
section
variable {d w : Int} {n : Nat} {A : Nat → pI} {nxt : Nat → Nat} {cls : Nat → Int} {cnt : Nat} {nm : Nat → Nat}
theorem isFr_of (T : isTF d w n A nxt cls cnt nm) : isFr d A cnt nm := by
  intro x y hx hy
  have hvx := tf_vld T hx
  have hvy := tf_vld T hy
  refine fr_1024 hvy.2.1 ?_
  have h0 := vld_1 T.1.1 hvx
  have h1 := (T.2.1 (nm x) (T.2.2.2.1 x hx).1).2.2.1
  have e : (nmF d A nm x).1 = (A (nm x)).1 := rfl
  rw [e] at h0 ⊢
  omega
theorem nm_small (T : isTF d w n A nxt cls cnt nm) {c : Nat} (hc : c < cnt) : (nmF d A nm c).2.2.natAbs ≤ 1048576 := by
  have hv := tf_vld T hc
  have h0 := vld_1 T.1.1 hv
  have hb := T.1.2.2.1
  obtain ⟨-, -, h1, h2⟩ := T.2.1 (nm c) (T.2.2.2.1 c hc).1
  have hD : (nmF d A nm c).2.1 * (nmF d A nm c).2.1 - 4 * (nmF d A nm c).1 * (nmF d A nm c).2.2 = d := hv.1
  have e1 : (nmF d A nm c).1 = (A (nm c)).1 := rfl
  have e2 : (nmF d A nm c).2.1 = (A (nm c)).2 := rfl
  rw [e1] at h0 hD
  rw [e2] at hD
  generalize (nmF d A nm c).2.2 = C at *
  have s1 := sq_abs (x := (A (nm c)).2) (C := 1024) (by omega) (by omega)
  have s2 := sqn (A (nm c)).2
  have e3 : (4 * (A (nm c)).1 * C).natAbs = 4 * ((A (nm c)).1.natAbs * C.natAbs) := by
    rw [Int.natAbs_mul, Int.natAbs_mul, Nat.mul_assoc]
    rfl
  have e4 : 1 * C.natAbs ≤ (A (nm c)).1.natAbs * C.natAbs := Nat.mul_le_mul_right _ (by omega)
  omega
/-- a form that is asked about -/
theorem ak_vld {F : Fm} (h : akP d F.1 F.2.1 F.2.2) : Vld d F ∧ cfB F 1073741824 := by
  obtain ⟨h1, h2, h3, h4⟩ := h
  refine ⟨⟨h2, (prim_iff F).2 h4, fun q => h3 (by omega)⟩, ?_⟩
  refine ⟨?_, ?_, ?_⟩ <;> omega
theorem pr_cf (hdb : -1048576 ≤ d ∧ d ≤ 1048576) : cfB (prF d) 1073741824 := by
  refine ⟨?_, ?_, ?_⟩
  · show (1 : Int).natAbs ≤ 1073741824
    decide
  · show (d % 2).natAbs ≤ 1073741824
    omega
  · show ((d % 2 - d) / 4).natAbs ≤ 1073741824
    omega
theorem sol_any (T : isTF d w n A nxt cls cnt nm) (hw : wdP d w) (hw4 : w ≤ 1024) {F : Fm} {e k c r i0 : Nat} {pl : Nat → Nat} (h : hnP d w n A cls cnt nm F e k c r i0 pl) {t u : Int} (hun : d < 0 → unN d t u) (hu : isUu d t u) {x : Int} (hx : inQ x) : ∃ fs', slX d w t u F e e r x fs' ∧ ∀ fam, fam ∈ fs' → (fam.2.2.1.natAbs : Int) < pB 1024 ∧ (fam.2.2.2.natAbs : Int) < pB 1024 := by
  rcases id hw with ⟨hd, -⟩ | ⟨hd, hw'⟩
  · exact sol_below T hd hw hw4 h (hun hd) hu hx
  · exact sol_above T hd hw' hw4 h hu hx
/-- all of a form at hand -/
theorem fo_of (T : isTF d w n A nxt cls cnt nm) (hw : wdP d w) (hw4 : w ≤ 1024) {F : Fm} {e k c r i0 : Nat} {pl : Nat → Nat} (h : hnP d w n A cls cnt nm F e k c r i0 pl) {t u x6 x7 : Int} (hun : d < 0 → unN d t u) (hu : isUu d t u) (h6 : 0 ≤ x6 ∧ x6 ≤ t) (h7 : 0 ≤ x7 ∧ x7 ≤ t) : foP d w t u x6 x7 F e e i0 r (e + i0) ∧ inR (1 * t + -F.2.1 * u) ∧ inR (1 * t + F.2.1 * u) := by
  obtain ⟨n1, n2, n3, n4⟩ := hnd_nu T hw hw4 h hu h6 h7
  refine ⟨⟨by omega, n1, fun fs j hj => big3 (n2 fs j hj), fun j hj => n2 [] j hj, (hnd_so T hw hw4 h hu).1, fun x hx => ?_⟩, big3 n3, big3 n4⟩
  obtain ⟨fs', s1, s2⟩ := sol_any T hw hw4 h hun hu hx
  refine ⟨fs', s1, fun _ j hj => ?_⟩
  rcases Nat.lt_or_ge j 12 with q | q
  · exact n2 fs' j q
  · obtain ⟨i, rfl⟩ : ∃ i, j = i + 12 := ⟨j - 12, by omega⟩
    have hi : i / 2 < fs'.length := by omega
    have hm : fs'.getD (i / 2) (0, 0, 0, 0) ∈ fs' := by
      rw [List.getD_eq_getElem?_getD, List.getElem?_eq_getElem hi]
      exact List.getElem_mem hi
    obtain ⟨b1, b2⟩ := s2 _ hm
    show ((if i % 2 = 0 then (pC fs' (i / 2)).1 else (pC fs' (i / 2)).2).natAbs : Int) < pB 1024
    split
    · exact b1
    · exact b2
end
/-- the unit of a discriminant -/
theorem unit_any {d w : Int} (hn : nsq d) (hdd : isDd d) (hdb : -1048576 ≤ d ∧ d ≤ 1048576) (hw : wdP d w) (hw4 : w ≤ 1024) : ∃ t u x6 x7 mn : Int, isUn d w t u x6 x7 ∧ (∃ Nu, muP d w Nu t u x6 x7 mn) ∧ isUu d t u ∧ (d < 0 → unN d t u) ∧ (x7.sign = mn ∧ (mn = 0 ∨ mn = 1)) ∧ (0 ≤ x6 ∧ x6 ≤ t) ∧ (0 ≤ x7 ∧ x7 ≤ t) := by
  rcases hw with ⟨hd, hw1⟩ | ⟨hd, hw'⟩
  · obtain ⟨t, ht⟩ : ∃ t : Int, t = if d = -3 then 1 else if d = -4 then 0 else 2 := ⟨_, rfl⟩
    obtain ⟨u, hu⟩ : ∃ u : Int, u = if d = -3 ∨ d = -4 then 1 else 0 := ⟨_, rfl⟩
    have hun : unN d t u := ⟨ht, hu⟩
    have b1 : 0 ≤ t ∧ t ≤ 2 := by
      rw [ht]
      split
      · decide
      · split <;> decide
    have b2 : 0 ≤ u ∧ u ≤ t + 1 := by
      rw [hu]
      split
      · omega
      · omega
    refine ⟨t, u, 0, 0, 0, Or.inl ⟨hd, hw1, ht, hu, rfl, rfl⟩, ⟨0, fun _ => ⟨ht, hu, rfl, rfl, rfl⟩, fun z => by omega⟩, ⟨unN_pell hun, b1.1, b2.1, b2.2, ?_, fun z => by omega⟩, fun _ => hun, ⟨rfl, Or.inl rfl⟩, by omega, by omega⟩
    have h1 := two_cast 15700
    rw [← h1]
    have h2 : 2 ^ 2 ≤ 2 ^ 15700 := Nat.pow_le_pow_right (by decide) (by decide)
    have h3 : (2 : Nat) ^ 2 = 4 := rfl
    rw [h3] at h2
    generalize (2 ^ 15700 : Nat) = X at *
    omega
  · obtain ⟨N, m, t, u, x6, x7, h⟩ := unit_ex hn hdd hd hw'
    obtain ⟨s1, s2, s3⟩ := unit_small hn hdd hd hdb.2 hw' h
    have hpu := h.2.2.1
    have hlt := pu_lt (d5 hn hdd hd hw').1 hpu
    have hB := big1 s1
    obtain ⟨m1, m2⟩ := mu_of hn hdd hd hw' hw4 h
    have hx : 0 ≤ x6 ∧ 0 ≤ x7 := by
      obtain ⟨-, -, -, -, hor⟩ := h
      rcases hor with ⟨-, -, a, b, -⟩ | ⟨-, -, -, a, b, -⟩
      · omega
      · omega
    refine ⟨t, u, x6, x7, x7.sign, un_of hn hdd hd hw' hw4 h ?_, ⟨m, m1⟩, ⟨hpu.2.2.1, by omega, by have := hpu.2.1; omega, by omega, s1, fun _ => hpu⟩, fun z => by omega, ⟨rfl, m2⟩, ⟨hx.1, s2⟩, ⟨hx.2, s3⟩⟩
    generalize (4294967296 ^ 1024 : Nat) = BB at *
    omega
/-- EVERYTHING -/
theorem kn_all (d : Int) (tk : tkP d) : knP d := by
  obtain ⟨w, e', n, A, nxt, T, hw, hw4, hml, hlen, hA, htb⟩ := tab_ex tk
  obtain ⟨hdb, hdd, hn⟩ := tk
  have hd0 : d ≠ 0 := fun z => hn 0 (by rw [z]; rfl)
  obtain ⟨ps, hps, hpl⟩ := op_ex (D := d.natAbs) (by omega) (by omega)
  obtain ⟨ord, fu, ho, g1, g2, g3⟩ := gens_ex T hps hpl
  obtain ⟨t, u, x6, x7, mn, hun, hmu, huu, hunN, hmn, h6, h7⟩ := unit_any hn hdd hdb hw hw4
  have hfr := isFr_of T
  obtain ⟨e, k, c, r, i0, pl, hh⟩ := hand_ex T hw hw4 (prF_vld hdd) (pr_cf hdb)
  have hc : c = (oneC T).val := by
    obtain ⟨hV, -, -, ⟨hVg, -, -⟩, ⟨-, -, c1, -⟩, -, hi0, -⟩ := id hh
    have q1 := (it_eqv (w := w) hn e _ hV.1).1
    have q2 := (it_eqv (w := w) hn i0 _ hVg.1).1
    rw [hi0] at q2
    exact tf_uniq T c1 (oneC T).isLt (eqv_trans q1 q2) (oneC_spec T)
  subst hc
  obtain ⟨fo, r1, r2⟩ := fo_of T hw hw4 hh hunN huu h6 h7
  refine ⟨w, n, A, nxt, _, _, _, T, ord, gnS T ord fu (st0 T), ps, t, u, x6, x7, mn, e, e, i0, r, e + i0, ⟨⟨rfl, rfl, rfl⟩, htb, hun, ⟨hw4, hw⟩, ho, ⟨fu, g1, g2, rfl⟩, hps, hnd_se T hw hw4 hh huu, ⟨e', hml, hlen, hA⟩, hfr, hmu, ⟨k, i0, pl, hnd_hd T hw hw4 hh⟩, r1, r2⟩, ⟨⟨hd0, hw, hfr⟩, fun x => ⟨ho x, (ho x).1.1⟩, g3, hmn, ⟨fun p hp => ?_, fun p hp => ?_, fun c p hc hp => ?_, fun c hc => nm_small T hc⟩, fun F hF => ?_, fun x hx => tel_ex T hw hw4 hx⟩, fo⟩
  · obtain ⟨p1, p2, p3⟩ := hps.1 p hp
    refine ⟨p1, p2, ?_⟩
    have := Nat.le_of_dvd (by omega) p3
    omega
  · exact Int.ofNat_dvd_left.2 (hps.1 p hp).2.2
  · exact fr_pr (tf_vld T hc).2.1 (hps.1 p hp).1
  · obtain ⟨hV, hcf⟩ := ak_vld hF
    obtain ⟨e2, k2, c2, r2', i2, pl2, hh2⟩ := hand_ex T hw hw4 hV hcf
    obtain ⟨fo2, q1, q2⟩ := fo_of T hw hw4 hh2 hunN huu h6 h7
    exact ⟨e2, c2, e2, i2, r2', e2 + i2, k2, i2, pl2, hnd_se T hw hw4 hh2 huu, hnd_hd T hw hw4 hh2, q1, q2, fo2⟩
