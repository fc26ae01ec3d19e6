/-! the model: a discriminant is taken -/
/-- what is to be known of a form that is taken at hand -/
def hdP (d w : Int) (n : Nat) (A : Nat → pI) (cls : Nat → Int) (cnt : Nat) (nm : Nat → Nat) (f : Fm) (m k c r i0 : Nat) (pl : Nat → Nat) (wl : Nat) : Prop := ((-2199023255552 ≤ f.1 ∧ f.1 ≤ 2199023255552) ∧ (-2199023255552 ≤ f.2.1 ∧ f.2.1 ≤ 2199023255552) ∧ (-2199023255552 ≤ f.2.2 ∧ f.2.2 ≤ 2199023255552)) ∧ (trm d w m f ∧ (d < 0 → posT d w m f) ∧ m ≤ 200 ∧ ∀ i, i < m → -4294967296 ≤ tnF d w f i ∧ tnF d w f i ≤ 4294967296) ∧ (k < n ∧ itF d w m f = fmP d (A k) ∧ c < cnt ∧ cls k = (c : Nat)) ∧ (0 < d → rgP d w n A (itF d w m f) r pl ∧ i0 < r ∧ ∀ i, i < r → (pl i = nm c ↔ i = i0)) ∧ ((0 < d → wl = m + i0) ∧ (d < 0 → wl = m))
/-- the form at hand and its way -/
def isHd (h : mj_H) (d w : Int) (f : Fm) (m c r wl : Nat) : Prop := (hJ h 1412 20 = jL f.1 ∧ hJ h 1412 21 = jL f.2.1 ∧ hJ h 1412 22 = jL f.2.2) ∧ (hI h 1412 23 = jI (c : Nat) ∧ hI h 1412 24 = jI (m : Nat) ∧ hI h 1412 26 = jI (wl : Nat)) ∧ (∀ i, i < m → hJ h 1423 i = jL (tnF d w f i)) ∧ (0 < d → hI h 1412 27 = jI (r : Nat) ∧ ∀ i, i < r → hI h 1424 i = jI (itF d w i (itF d w m f)).1 ∧ hI h 1425 i = jI (itF d w i (itF d w m f)).2.1 ∧ hI h 1426 i = jI (tnF d w (itF d w m f) i)) ∧ (∀ j, j < 4 → isN h j (wyR (tnF d w f) wl j))
/-- the four numbers of the form's own matrix -/
def isAu (h : mj_H) (f : Fm) (t u : Int) : Prop := isN h 8 ((1 * t + -f.2.1 * u) / 2) ∧ isN h 9 (-f.2.2 * u) ∧ isN h 10 (f.1 * u) ∧ isN h 11 ((1 * t + f.2.1 * u) / 2)
theorem prF_fmP {d : Int} (h : isDd d) : fmP d (1, d % 2) = prF d := by
  unfold isDd at h
  have h2 : d % 2 = 0 ∨ d % 2 = 1 := by omega
  unfold fmP prF
  simp only
  have e : d % 2 * (d % 2) = d % 2 := by rcases h2 with z | z <;> rw [z] <;> rfl
  rw [e, Int.mul_one]
  have hdv : (4 : Int) ∣ d % 2 - d := by omega
  obtain ⟨q, hq⟩ := hdv
  rw [hq, Int.mul_tdiv_cancel_left _ (by decide), Int.mul_ediv_cancel_left _ (by decide)]
theorem ppr_of {l p : Nat} (hp2 : 2 ≤ p) (ho : p % 2 = 1) (hmin : ∀ q, Pr q → q % 2 = 1 → q ∣ l → p ≤ q) (hd : p ∣ l) : Pr p := by
  obtain ⟨q, q1, q2⟩ := ex_pr p p (Nat.le_refl _) hp2
  have q3 : q % 2 = 1 := by
    obtain ⟨r, hr⟩ := q2
    have hq : q % 2 = 0 ∨ q % 2 = 1 := by omega
    rcases hq with z | z
    · rw [hr, Nat.mul_mod, z, Nat.zero_mul, Nat.zero_mod] at ho
      omega
    · exact z
  have h1 := hmin q q1 q3 (Nat.dvd_trans q2 hd)
  have h2 := Nat.le_of_dvd (by omega) q2
  rw [show p = q by omega]
  exact q1
/-- what is known on the way to the odd primes: l is left, p is tried, ps are found -/
def opI (D l p : Nat) (ps : List Nat) : Prop := (0 < l ∧ l ∣ D ∧ p % 2 = 1 ∧ 2 * ps.length + 3 ≤ p ∧ ofN ps.length ≤ prodL ps ∧ prodL ps * l ≤ D) ∧ (∀ q, Pr q → q % 2 = 1 → q ∣ l → p ≤ q) ∧ (∀ q, q ∈ ps → Pr q ∧ q % 2 = 1 ∧ q ∣ D ∧ q < p) ∧ (∀ i j q r : Nat, i < j → ps[i]? = some q → ps[j]? = some r → q < r) ∧ (∀ q, Pr q → q % 2 = 1 → q ∣ D → q ∈ ps ∨ q ∣ l)
theorem opI_len {D l p : Nat} {ps : List Nat} (hD : D ≤ 1048576) (h : opI D l p ps) (hpl : p ≤ l) : ps.length < 6 := by
  obtain ⟨⟨i1, i2, i3, i4, i5, i6⟩, -⟩ := h
  rcases Nat.lt_or_ge ps.length 6 with z | z
  · exact z
  · exfalso
    have h1 := ofN_mono (ps.length - 6) 6
    rw [show 6 + (ps.length - 6) = ps.length by omega] at h1
    have h2 : ofN 6 * 15 ≤ prodL ps * l := Nat.mul_le_mul (by omega) (by omega)
    have h3 : ofN 6 = 135135 := by decide
    omega
theorem opI_end {D l p : Nat} {ps : List Nat} (h : opI D l p ps) (hlp : l < p) : isOP D ps := by
  obtain ⟨⟨i1, i2, i3, i4, i5, i6⟩, i8, i9, i10, i11⟩ := h
  refine ⟨fun q hq => ⟨(i9 q hq).1, (i9 q hq).2.1, (i9 q hq).2.2.1⟩, i10, fun q h1 h2 h3 => ?_⟩
  rcases i11 q h1 h2 h3 with z | z
  · exact z
  · have a := i8 q h1 h2 z
    have b := Nat.le_of_dvd i1 z
    omega
theorem opI_next {D l p : Nat} {ps : List Nat} (h : opI D l p ps) (hnd : ¬ p ∣ l) : opI D l (p + 2) ps := by
  obtain ⟨⟨i1, i2, i3, i4, i5, i6⟩, i8, i9, i10, i11⟩ := h
  refine ⟨⟨i1, i2, by omega, by omega, i5, i6⟩, fun q h1 h2 h3 => ?_, fun q hq => ?_, i10, i11⟩
  · have a := i8 q h1 h2 h3
    by_cases e : q = p
    · exact absurd (e ▸ h3) hnd
    · omega
  · obtain ⟨a1, a2, a3, a4⟩ := i9 q hq
    exact ⟨a1, a2, a3, by omega⟩
theorem opI_put {D l p l' : Nat} {ps : List Nat} (h : opI D l p ps) (hdv : p ∣ l) (h0 : 0 < l') (hll : l' ∣ l) (hpr : prodL ps * p * l' ≤ D) (hqs : ∀ q, Pr q → q ∣ l → q = p ∨ q ∣ l') (hnd : ¬ p ∣ l') : opI D l' (p + 2) (ps ++ [p]) := by
  obtain ⟨⟨i1, i2, i3, i4, i5, i6⟩, i8, i9, i10, i11⟩ := h
  have hpp := ppr_of (by omega) i3 i8 hdv
  refine ⟨⟨h0, Nat.dvd_trans hll i2, by omega, ?_, ?_, ?_⟩, fun q hq hq2 hql => ?_, ?_, ?_, ?_⟩
  · simp only [List.length_append, List.length_cons, List.length_nil]
    omega
  · simp only [List.length_append, List.length_cons, List.length_nil]
    rw [prodL_app]
    exact Nat.mul_le_mul i5 (by omega)
  · rw [prodL_app]
    exact hpr
  · have h1 := i8 q hq hq2 (Nat.dvd_trans hql hll)
    by_cases e : q = p
    · exact absurd (e ▸ hql) hnd
    · omega
  · intro q hq
    rcases List.mem_append.1 hq with z | z
    · obtain ⟨a1, a2, a3, a4⟩ := i9 q z
      exact ⟨a1, a2, a3, by omega⟩
    · have := List.mem_singleton.1 z
      subst this
      exact ⟨hpp, i3, Nat.dvd_trans hdv i2, by omega⟩
  · intro i j q r hij hq hr
    have hjl := lt_of_some hr
    simp only [List.length_append, List.length_cons, List.length_nil] at hjl
    rw [List.getElem?_append_left (by omega)] at hq
    by_cases hj : j = ps.length
    · subst hj
      rw [List.getElem?_append_right (Nat.le_refl _), Nat.sub_self] at hr
      have h9 : some p = some r := hr
      have := Option.some.inj h9
      have := (i9 q (List.mem_of_getElem? hq)).2.2.2
      omega
    · rw [List.getElem?_append_left (by omega)] at hr
      exact i10 i j q r hij hq hr
  · intro q h1 h2 h3
    rcases i11 q h1 h2 h3 with z | z
    · exact Or.inl (List.mem_append.2 (Or.inl z))
    · rcases hqs q h1 z with y | y
      · exact Or.inl (List.mem_append.2 (Or.inr (List.mem_singleton.2 y)))
      · exact Or.inr y
theorem isMp.M {I J S : Nat → Prop} {h h' : mj_H} (f : FrM I J S h h') {ps : List Nat} (a : isMp h ps) (h1 : ¬ I 17) (h2 : ¬ S 1422) : isMp h' ps := ⟨(f.2.2.1 17 h1).trans a.1, a.2.1, fun i p hp => (f.J (by decide) h2 _).trans (a.2.2 i p hp)⟩
abbrev iBe (k : Nat) : Prop := k ≠ 0
abbrev jAny (k : Nat) : Prop := k ≠ 54 ∧ k ≠ 55
abbrev sBe (c : Nat) : Prop := (1413 ≤ c ∧ c ≤ 1426) ∨ c = 1439
theorem upBe {I J S : Nat → Prop} {h h1 h2 : mj_H} (F : FrM iBe jAny sBe h h1) (F2 : FrM I J S h1 h2) (h0 : ¬ I 0) (hs : ∀ c, S c → sBe c) (hj : ¬ J 54 ∧ ¬ J 55 := by first | omega | exact ⟨fun z => z, fun z => z⟩) : FrM iBe jAny sBe h h2 := F.trans (F2.mono (fun k z e0 => h0 (e0 ▸ z)) (fun k z => ⟨fun e => hj.1 (e ▸ z), fun e => hj.2 (e ▸ z)⟩) hs)
section
variable {d w : Int} {n : Nat} {A : Nat → pI} {nxt : Nat → Nat} {cls : Nat → Int} {cnt : Nat} {nm : Nat → Nat}
abbrev l191 (d : Int) (x3 x4 x5 x6 : Option Value) : mj_Ls := [some (.ref 1412), some (.long (jL d)), none, x3, x4, x5, x6]
/-- FormHouseModel.begin(J)V; cuts at [5, 28, 31, 35, 39, 54, 62, 64, 72, 85, 87, 95, 104, 109, 115, 119, 124, 132, 137, 144, 156, 167, 177, 186, 194, 205, 209, 214, 229] -/
def cl_191_5 : List mj_E := (226, false, .invokevirtual 150, 3, 194, 2, 17, 0, 0) ::
  (229, true, .aload_n 0, 1, 0, 0, 0, 0, 0) ::
  (230, false, .aload_n 0, 1, 0, 0, 0, 0, 0) ::
  (231, false, .getfield 132, 3, 17, 50, 1, 0, 0) ::
  (234, false, .aload_n 0, 1, 0, 0, 0, 0, 0) ::
  (235, false, .getfield 135, 3, 17, 51, 1, 0, 0) ::
  (238, false, .aload_n 0, 1, 0, 0, 0, 0, 0) ::
  (239, false, .getfield 140, 3, 17, 52, 1, 0, 0) ::
  (242, false, .invokevirtual 236, 3, 220, 3, 17, 0, 0) ::
  (245, false, .return_, 1, 0, 0, 0, 0, 0) ::
  []
def cl_191_4 : List mj_E := (181, false, .lconst 0, 1, 0, 0, 0, 0, jL 0) ::
  (182, false, .lcmp, 1, 0, 0, 0, 0, 0) ::
  (183, false, .ifCond .ne 11, 3, 104, 0, 0, 0, 0) ::
  (186, true, .lload_n 3, 1, 0, 0, 0, 0, 0) ::
  (187, false, .lload 5, 2, 0, 0, 0, 0, 0) ::
  (189, false, .ldiv, 1, 0, 0, 0, 0, 0) ::
  (190, false, .lstore_n 3, 1, 0, 0, 0, 0, 0) ::
  (191, false, .goto (-14), 3, 93, 0, 0, 0, 0) ::
  (194, true, .lload 5, 2, 0, 0, 0, 0, 0) ::
  (196, false, .ldc2_w 130, 3, 0, 0, 0, 0, jL 2) ::
  (199, false, .ladd, 1, 0, 0, 0, 0, 0) ::
  (200, false, .lstore 5, 2, 0, 0, 0, 0, 0) ::
  (202, false, .goto (-65), 3, 70, 0, 0, 0, 0) ::
  (205, true, .aload_n 0, 1, 0, 0, 0, 0, 0) ::
  (206, false, .invokevirtual 230, 3, 212, 0, 17, 0, 0) ::
  (209, true, .aload_n 0, 1, 0, 0, 0, 0, 0) ::
  (210, false, .iconst 0, 1, 0, 0, 0, jI 0, 0) ::
  (211, false, .putfield 233, 3, 17, 31, 0, 0, 0) ::
  (214, true, .aload_n 0, 1, 0, 0, 0, 0, 0) ::
  (215, false, .lconst 1, 1, 0, 0, 0, 0, jL 1) ::
  (216, false, .aload_n 0, 1, 0, 0, 0, 0, 0) ::
  (217, false, .getfield 9, 3, 17, 1, 1, 0, 0) ::
  (220, false, .ldc2_w 130, 3, 0, 0, 0, 0, jL 2) ::
  (223, false, .invokestatic 143, 3, 200, 2, 0, 0, 0) ::
  cl_191_5
def cl_191_3 : List mj_E := (140, false, .lcmp, 1, 0, 0, 0, 0, 0) ::
  (141, false, .ifCond .gt 64, 3, 109, 0, 0, 0, 0) ::
  (144, true, .lload_n 3, 1, 0, 0, 0, 0, 0) ::
  (145, false, .lload 5, 2, 0, 0, 0, 0, 0) ::
  (147, false, .lrem, 1, 0, 0, 0, 0, 0) ::
  (148, false, .lconst 0, 1, 0, 0, 0, 0, jL 0) ::
  (149, false, .lcmp, 1, 0, 0, 0, 0, 0) ::
  (150, false, .ifCond .eq 6, 3, 81, 0, 0, 0, 0) ::
  (153, false, .goto 41, 3, 104, 0, 0, 0, 0) ::
  (156, true, .aload_n 0, 1, 0, 0, 0, 0, 0) ::
  (157, false, .getfield 51, 3, 17, 18, 2, 0, 0) ::
  (160, false, .aload_n 0, 1, 0, 0, 0, 0, 0) ::
  (161, false, .getfield 227, 3, 17, 17, 0, 0, 0) ::
  (164, false, .lload 5, 2, 0, 0, 0, 0, 0) ::
  (166, false, .lastore, 1, 0, 0, 0, 0, 0) ::
  (167, true, .aload_n 0, 1, 0, 0, 0, 0, 0) ::
  (168, false, .dup, 1, 0, 0, 0, 0, 0) ::
  (169, false, .getfield 227, 3, 17, 17, 0, 0, 0) ::
  (172, false, .iconst 1, 1, 0, 0, 0, jI 1, 0) ::
  (173, false, .iadd, 1, 0, 0, 0, 0, 0) ::
  (174, false, .putfield 227, 3, 17, 17, 0, 0, 0) ::
  (177, true, .lload_n 3, 1, 0, 0, 0, 0, 0) ::
  (178, false, .lload 5, 2, 0, 0, 0, 0, 0) ::
  (180, false, .lrem, 1, 0, 0, 0, 0, 0) ::
  cl_191_4
def cl_191_2 : List mj_E := (92, false, .if_icmp .ge 23, 3, 59, 0, 0, 0, 0) ::
  (95, true, .aload_n 0, 1, 0, 0, 0, 0, 0) ::
  (96, false, .getfield 34, 3, 17, 9, 2, 0, 0) ::
  (99, false, .iload_n 3, 1, 0, 0, 0, 0, 0) ::
  (100, false, .iaload, 1, 0, 0, 0, 0, 0) ::
  (101, false, .ifCond .ne 8, 3, 57, 0, 0, 0, 0) ::
  (104, true, .aload_n 0, 1, 0, 0, 0, 0, 0) ::
  (105, false, .iload_n 3, 1, 0, 0, 0, 0, 0) ::
  (106, false, .invokevirtual 221, 3, 203, 1, 17, 0, 0) ::
  (109, true, .iinc 3 1, 3, 0, 0, 0, jI 1, 0) ::
  (112, false, .goto (-25), 3, 45, 0, 0, 0, 0) ::
  (115, true, .aload_n 0, 1, 0, 0, 0, 0, 0) ::
  (116, false, .invokevirtual 224, 3, 210, 0, 17, 0, 0) ::
  (119, true, .aload_n 0, 1, 0, 0, 0, 0, 0) ::
  (120, false, .iconst 0, 1, 0, 0, 0, jI 0, 0) ::
  (121, false, .putfield 227, 3, 17, 17, 0, 0, 0) ::
  (124, true, .aload_n 0, 1, 0, 0, 0, 0, 0) ::
  (125, false, .getfield 9, 3, 17, 1, 1, 0, 0) ::
  (128, false, .invokestatic 124, 3, 196, 1, 0, 0, 0) ::
  (131, false, .lstore_n 3, 1, 0, 0, 0, 0, 0) ::
  (132, true, .ldc2_w 157, 3, 0, 0, 0, 0, jL 3) ::
  (135, false, .lstore 5, 2, 0, 0, 0, 0, 0) ::
  (137, true, .lload 5, 2, 0, 0, 0, 0, 0) ::
  (139, false, .lload_n 3, 1, 0, 0, 0, 0, 0) ::
  cl_191_3
def cl_191_1 : List mj_E := (48, false, .invokestatic 143, 3, 200, 2, 0, 0, 0) ::
  (51, false, .invokevirtual 150, 3, 194, 2, 17, 0, 0) ::
  (54, true, .aload_n 0, 1, 0, 0, 0, 0, 0) ::
  (55, false, .aload_n 0, 1, 0, 0, 0, 0, 0) ::
  (56, false, .invokevirtual 195, 3, 202, 0, 17, 0, 0) ::
  (59, false, .putfield 201, 3, 17, 14, 0, 0, 0) ::
  (62, true, .iconst 0, 1, 0, 0, 0, jI 0, 0) ::
  (63, false, .istore_n 3, 1, 0, 0, 0, 0, 0) ::
  (64, true, .iload_n 3, 1, 0, 0, 0, 0, 0) ::
  (65, false, .aload_n 0, 1, 0, 0, 0, 0, 0) ::
  (66, false, .getfield 169, 3, 17, 7, 0, 0, 0) ::
  (69, false, .if_icmp .ge 16, 3, 43, 0, 0, 0, 0) ::
  (72, true, .aload_n 0, 1, 0, 0, 0, 0, 0) ::
  (73, false, .getfield 34, 3, 17, 9, 2, 0, 0) ::
  (76, false, .iload_n 3, 1, 0, 0, 0, 0, 0) ::
  (77, false, .iconst 0, 1, 0, 0, 0, jI 0, 0) ::
  (78, false, .iastore, 1, 0, 0, 0, 0, 0) ::
  (79, false, .iinc 3 1, 3, 0, 0, 0, jI 1, 0) ::
  (82, false, .goto (-18), 3, 32, 0, 0, 0, 0) ::
  (85, true, .iconst 0, 1, 0, 0, 0, jI 0, 0) ::
  (86, false, .istore_n 3, 1, 0, 0, 0, 0, 0) ::
  (87, true, .iload_n 3, 1, 0, 0, 0, 0, 0) ::
  (88, false, .aload_n 0, 1, 0, 0, 0, 0, 0) ::
  (89, false, .getfield 169, 3, 17, 7, 0, 0, 0) ::
  cl_191_2
def cl_191_0 : List mj_E := (0, false, .aload_n 0, 1, 0, 0, 0, 0, 0) ::
  (1, false, .lload_n 1, 1, 0, 0, 0, 0, 0) ::
  (2, false, .putfield 9, 3, 17, 1, 1, 0, 0) ::
  (5, true, .aload_n 0, 1, 0, 0, 0, 0, 0) ::
  (6, false, .aload_n 0, 1, 0, 0, 0, 0, 0) ::
  (7, false, .getfield 9, 3, 17, 1, 1, 0, 0) ::
  (10, false, .lconst 0, 1, 0, 0, 0, 0, jL 0) ::
  (11, false, .lcmp, 1, 0, 0, 0, 0, 0) ::
  (12, false, .ifCond .ge 9, 3, 11, 0, 0, 0, 0) ::
  (15, false, .ldc2_w 15, 3, 0, 0, 0, 0, jL (-1)) ::
  (18, false, .goto 10, 3, 14, 0, 0, 0, 0) ::
  (21, false, .aload_n 0, 1, 0, 0, 0, 0, 0) ::
  (22, false, .getfield 9, 3, 17, 1, 1, 0, 0) ::
  (25, false, .invokestatic 159, 3, 192, 1, 0, 0, 0) ::
  (28, true, .putfield 17, 3, 17, 2, 1, 0, 0) ::
  (31, true, .aload_n 0, 1, 0, 0, 0, 0, 0) ::
  (32, false, .invokevirtual 215, 3, 193, 0, 17, 0, 0) ::
  (35, true, .aload_n 0, 1, 0, 0, 0, 0, 0) ::
  (36, false, .invokevirtual 218, 3, 198, 0, 17, 0, 0) ::
  (39, true, .aload_n 0, 1, 0, 0, 0, 0, 0) ::
  (40, false, .lconst 1, 1, 0, 0, 0, 0, jL 1) ::
  (41, false, .aload_n 0, 1, 0, 0, 0, 0, 0) ::
  (42, false, .getfield 9, 3, 17, 1, 1, 0, 0) ::
  (45, false, .ldc2_w 130, 3, 0, 0, 0, 0, jL 2) ::
  cl_191_1
def cd_191 : List mj_E := cl_191_0
def cx_191 : mj_X := (0, [], [])
theorem tb_191 : mj_tab (mj_mt 191) cx_191 cd_191 mj_mh [(0, 0, 0), (0, 0, 0), (7100, 0, 0), (0, 0, 0), (0, 0, 0), (7100, 0, 0), (0, 0, 0), (0, 0, 0), (0, 0, 0), (6206, 0, 0), (0, 0, 0), (0, 0, 0), (7100, 0, 0), (6214, 0, 0), (7101, 0, 0), (0, 0, 0), (6219, 0, 0), (0, 0, 0), (6239, 0, 0), (0, 0, 0), (0, 0, 0), (0, 0, 0), (7100, 0, 0), (6218, 0, 0), (7007, 0, 0), (6225, 0, 0), (0, 0, 0), (0, 0, 0), (7014, 0, 0), (7113, 0, 0), (0, 0, 0), (0, 0, 0), (0, 0, 0), (0, 0, 0), (7106, 0, 0), (0, 0, 0), (0, 0, 0), (7108, 0, 0), (0, 0, 0), (0, 0, 0), (0, 0, 0), (0, 0, 0), (0, 0, 0), (0, 0, 0), (0, 0, 0), (0, 0, 0), (0, 0, 0), (7106, 0, 0), (0, 0, 0), (0, 0, 0), (7108, 0, 0), (0, 0, 0), (0, 0, 0), (0, 0, 0), (0, 0, 0), (0, 0, 0), (7018, 0, 0), (0, 0, 0), (0, 0, 0), (0, 0, 0), (7045, 0, 0), (0, 0, 0), (0, 0, 0), (7116, 0, 0), (0, 0, 0), (7100, 0, 0), (6233, 0, 0), (0, 0, 0), (6223, 0, 0), (0, 0, 0), (0, 0, 0), (0, 0, 0), (0, 0, 0), (0, 0, 0), (0, 0, 0), (0, 0, 0), (0, 0, 0), (0, 0, 0), (0, 0, 0), (0, 0, 0), (0, 0, 0), (0, 0, 0), (7117, 0, 0), (0, 0, 0), (7116, 0, 0), (0, 0, 0), (0, 0, 0), (0, 0, 0), (0, 0, 0), (7116, 0, 0), (0, 0, 0), (0, 0, 0), (7116, 0, 0), (0, 0, 0), (0, 0, 0), (0, 0, 0), (0, 0, 0), (0, 0, 0), (0, 0, 0), (0, 0, 0), (0, 0, 0), (0, 0, 0), (0, 0, 0), (0, 0, 0), (0, 0, 0), (6218, 0, 0), (0, 0, 0), (0, 0, 0), (0, 0, 0), (0, 0, 0), (7053, 0, 0), (0, 0, 0), (0, 0, 0), (7130, 0, 0), (0, 0, 0), (0, 0, 0), (0, 0, 0), (7100, 0, 0), (6218, 0, 0), (7007, 0, 0), (6225, 0, 0), (0, 0, 0), (0, 0, 0), (7149, 0, 0), (0, 0, 0), (7150, 0, 0), (0, 0, 0), (7151, 0, 0), (7087, 0, 0), (0, 0, 0)] = true := mj_tab_f (by decide +kernel)
theorem ct_191 (G : mj_G) {h : mj_H} (L : isLam h) (hwp : wdP d w) (hw4 : w ≤ 1024) {e : Int} (he : (d < 0 ∧ 0 ≤ e ∧ e * e ≤ (-d).tdiv 3 ∧ (-d).tdiv 3 < (e + 1) * (e + 1)) ∨ (0 < d ∧ e = w)) (el : (mfL d w e).length = n) (eA : aL (mfL d w e) = A) (ec : (clSt nxt n n).1 = cls ∧ (clSt nxt n n).2.1 = cnt ∧ (clSt nxt n n).2.2 = nm) (T : isTF d w n A nxt cls cnt nm) (hcl4 : ∀ k, k ≤ n → (clSt nxt n k).2.1 ≤ 4096) (hfr : isFr d A cnt nm) {o : Fin cnt → Nat} (ho : ∀ x, isOrd (mulC T) (oneC T) x (o x) ∧ o x ≤ 4096) {f0 : Nat} (hok : gnOT T o f0 (st0 T)) {Nu : Nat} {t u x6 x7 mn : Int} (hu : muP d w Nu t u x6 x7 mn) {m k r i0 : Nat} {pl : Nat → Nat} {wl : Nat} (hh : hdP d w n A cls cnt nm (prF d) m k (oneC T).val r i0 pl wl) (r1 : inR (1 * t + -(prF d).2.1 * u)) (r2 : inR (1 * t + (prF d).2.1 * u)) : mj_Ct G (mj_mt 191) 0 0 [.ref 1412, .long (jL d)] h (fun oc h' => oc = .returned none ∧ isMT h' d w n A cls cnt nm ∧ isMg T o h' ∧ isMs (gnS T o f0 (st0 T)) h' ∧ (∃ ps, isOP d.natAbs ps ∧ isMp h' ps) ∧ (isN h' 4 t ∧ isN h' 5 u ∧ isN h' 6 x6 ∧ isN h' 7 x7 ∧ hI h' 1412 19 = jI mn) ∧ isHd h' d w (prF d) m (oneC T).val r wl ∧ isAu h' (prF d) t u ∧ (hI h' 1412 31 = jI 0 ∧ hI h' 1412 34 = jI 0 ∧ hI h' 1412 35 = jI 0) ∧ FrM iBe jAny sBe h h') := by
  obtain ⟨⟨hnsq, hdd, hd, hwb, hn, hcnt, hS, hx⟩, hv, hcl, hnm, heq, hred, hring, hall⟩ := id T
  have hd0 : d ≠ 0 := by
    intro z
    rcases hwp with q | q <;> omega
  obtain ⟨hfb, ⟨ht, hpo, hm2, han⟩, ⟨hk, hkf, hc, hcls⟩, hrg, hwl⟩ := id hh
  have hD0 : 0 < d.natAbs := by omega
  have hD1 : d.natAbs ≤ 1048576 := by omega
  have nat : ∀ {k : Nat}, k < 40960 → (jI (k : Int)).toNatClampNeg = k := by
    intro k hk
    rw [jI_nat (by omega) (by omega), Int.toNat_natCast]
  have em2 : d % 2 = 0 ∨ d % 2 = 1 := by omega
  refine mj_Ct_of mj_ok tb_191 rfl rfl (Nat.le_of_ble_eq_true rfl) (fun Run hR => ?_)
  -- all but the form at hand
  let Z : mj_H → Prop := fun h' => isMT h' d w n A cls cnt nm ∧ isMg T o h' ∧ isMs (gnS T o f0 (st0 T)) h' ∧ (∃ ps, isOP d.natAbs ps ∧ isMp h' ps) ∧ (isN h' 4 t ∧ isN h' 5 u ∧ isN h' 6 x6 ∧ isN h' 7 x7 ∧ hI h' 1412 19 = jI mn) ∧ hI h' 1412 31 = jI 0 ∧ FrM iBe jAny sBe h h'
  have r229 : ∀ (h' : mj_H) (x3 x4 x5 x6 : Option Value), Z h' → isMm h' (prF d) → Run 229 (l191 d x3 x4 x5 x6) [] h' (0, 0) := by
    rintro h' x3 x4 x5 x6 ⟨a1, a2, a3, ⟨ps, p1, p2⟩, ⟨b1, b2, b3, b4, b5⟩, e31, F⟩ ⟨m1, m2, m3⟩
    have L' := F.lay L
    have c220 := ct_220 G L' T a1 hwp hfb ht hpo hm2 han hk hkf hc hcls hrg hwl b1 b2 r1 r2
    rw [← m1, ← m2, ← m3] at c220
    refine hR 60 121 _ _ _ _ _ _ rfl ?_
    refine ⟨L'.K 1412 rfl, L'.K 1412 rfl, L'.K 1412 rfl, L'.K 1412 rfl, jcallP c220 ?_⟩
    rintro oc h3 ⟨rfl, q1, ⟨q2, q3, q4, q5, q6⟩, q7, q8, q9, q10, q11, q12, q13, q14, q15, q16, F3⟩
    rw [m1, m2, m3] at q1
    have k6 : ∀ (i : Nat) (v : Int), (i = 6 ∨ i = 7) → isN h' i v → isN h3 i v := fun i v hi a k hk => (q16 _ (by omega)).trans (a k hk)
    refine ⟨rfl, a1.M F3 (by omega) (by omega) (fun x hx => by omega), a2.M F3 (by omega) (by omega), a3.M F3 (by omega) (fun x hx => by omega), ⟨ps, p1, p2.M F3 (by omega) (by omega)⟩, ⟨q10, q11, k6 6 _ (Or.inl rfl) b3, k6 7 _ (Or.inr rfl) b4, (F3.2.2.1 19 (by omega)).trans b5⟩, ⟨q1, ⟨q4, q5, q6⟩, q7, q8, q9⟩, ⟨q12, q13, q14, q15⟩, ⟨(F3.2.2.1 31 (by omega)).trans e31, q3, q2⟩, upBe F F3 (by omega) (fun c hc => by omega)⟩
  have r214 : ∀ (h' : mj_H) (x3 x4 x5 x6 : Option Value), Z h' → Run 214 (l191 d x3 x4 x5 x6) [] h' (0, 0) := by
    rintro h' x3 x4 x5 x6 ⟨a1, a2, a3, ⟨ps, p1, p2⟩, ⟨b1, b2, b3, b4, b5⟩, e31, F⟩
    have L' := F.lay L
    refine hR 60 114 _ _ _ _ _ _ rfl ?_
    refine ⟨L'.K 1412 rfl, ?_⟩
    rw [a1.2.2.1]
    refine jcall (ct_200 G (x := d) (y := 2) (by omega) (by omega) (by omega) (by omega) h') ?_
    refine ⟨L'.K 1412 rfl, jcallP (ct_194 G L' a1.2.2 (by omega) (x := 1) (y := d % 2) (by omega) (by omega) (by omega)) ?_⟩
    rintro oc h3 ⟨rfl, m3, F3⟩
    rw [prF_fmP hdd] at m3
    have kN : ∀ {i : Nat} {v : Int}, isN h' i v → isN h3 i v := fun a k hk => (F3.I (by decide) (fun z => z) _).trans (a k hk)
    exact r229 h3 _ _ _ _ ⟨a1.M F3 ⟨fun z => z, fun z => z⟩ (by omega) (fun _ _ z => z), a2.M F3 (fun z => z) (fun z => z), a3.M F3 ⟨fun z => z, fun z => z⟩ (fun _ _ z => z), ⟨ps, p1, p2.M F3 (fun z => z) (fun z => z)⟩, ⟨kN b1, kN b2, kN b3, kN b4, (F3.2.2.1 19 (fun z => z)).trans b5⟩, (F3.2.2.1 31 (fun z => z)).trans e31, upBe F F3 (fun z => z) (fun _ z => z.elim)⟩ m3
  have r209 : ∀ (h' : mj_H) (y3 y4 y5 y6 : Option Value), isMT h' d w n A cls cnt nm → isMg T o h' → isMs (gnS T o f0 (st0 T)) h' → (∃ ps, isOP d.natAbs ps ∧ isMp h' ps) → (isN h' 4 t ∧ isN h' 5 u ∧ isN h' 6 x6 ∧ isN h' 7 x7 ∧ hI h' 1412 19 = jI mn) → FrM iBe jAny sBe h h' → Run 209 (l191 d y3 y4 y5 y6) [] h' (0, 0) := by
    rintro h' y3 y4 y5 y6 a1 a2 a3 ⟨ps, p1, p2⟩ ⟨b1, b2, b3, b4, b5⟩ F
    have F3 : FrM (fun k => k = 31) noT noT h' (sI h' 1412 31 (jI 0)) := (FrM.refl (fun k => k = 31) noT noT h').fI (k := 31) rfl _
    have kN : ∀ {i : Nat} {v : Int}, isN h' i v → isN (sI h' 1412 31 (jI 0)) i v := fun a k hk => (F3.I (by decide) (fun z => z) _).trans (a k hk)
    refine hR 60 111 _ _ _ _ _ _ rfl ?_
    refine ⟨(F.lay L).K 1412 rfl, ?_⟩
    exact r214 _ _ _ _ _ ⟨a1.M F3 (by omega) ⟨fun z => z, fun z => z⟩ (fun _ _ z => z), a2.M F3 (by omega) (fun z => z), a3.M F3 (by omega) (fun _ _ z => z), ⟨ps, p1, p2.M F3 (by omega) (fun z => z)⟩, ⟨kN b1, kN b2, kN b3, kN b4, (F3.2.2.1 19 (by omega)).trans b5⟩, sI_at _ _ _ _, upBe F F3 (by omega) (fun _ z => z.elim)⟩
  have r205 : ∀ (h' : mj_H) (x3 x4 x5 x6 : Option Value), isMT h' d w n A cls cnt nm → isMg T o h' → isMs (gnS T o f0 (st0 T)) h' → (∃ ps, isOP d.natAbs ps ∧ isMp h' ps) → FrM iBe jAny sBe h h' → Run 205 (l191 d x3 x4 x5 x6) [] h' (0, 0) := by
    rintro h' y3 y4 y5 y6 a1 a2 a3 ⟨ps, p1, p2⟩ F
    have L' := F.lay L
    refine hR 60 109 _ _ _ _ _ _ rfl ?_
    refine ⟨L'.K 1412 rfl, jcallP (ct_212 G L' a1.2.2 hd hd0 (by omega) hu) ?_⟩
    rintro oc h3 ⟨rfl, b1, b2, b3, b4, b5, F3⟩
    exact r209 h3 _ _ _ _ (a1.M F3 (by omega) ⟨fun z => z, fun z => z⟩ (fun x hx => by omega)) (a2.M F3 (by omega) (by omega)) (a3.M F3 (by omega) (fun x hx => by omega)) ⟨ps, p1, p2.M F3 (by omega) (by omega)⟩ ⟨b1, b2, b3, b4, b5⟩ (upBe F F3 (by omega) (fun c hc => by omega))
  -- the odd primes
  have r137 : ∀ (q l p : Nat) (ps : List Nat) (lL pL : Int64) (h' : mj_H), d.natAbs + 4 ≤ p + q → p ≤ d.natAbs + 6 → opI d.natAbs l p ps → isMp h' ps → isMT h' d w n A cls cnt nm → isMg T o h' → isMs (gnS T o f0 (st0 T)) h' → FrM iBe jAny sBe h h' → lL = jL l → pL = jL p → Run 137 (l191 d (some (.long lL)) none (some (.long pL)) none) [] h' (0, 0) := by
    intro q
    induction q with
    | zero =>
      rintro l p ps lL pL h' hq hp6 hi hp a1 a2 a3 F rfl rfl
      have hlD := Nat.le_of_dvd hD0 hi.1.2.1
      refine hR 60 70 _ _ _ _ _ _ rfl ?_
      refine ⟨fun c => r205 h' _ _ _ _ a1 a2 a3 ⟨ps, opI_end hi (by omega), hp⟩ F, fun c => ?_⟩
      simp only [mj_lcm] at c
      simp (disch := omega) only [mj_lcm, jI_lt, jI_le, jI_eq, jL_lt, jL_le, jL_eq, jI_lt0, jI_0le, jI_0lt, jI_le0, jI_eq0, jL_eq0, jI_L, jI_add, jI_sub, jI_mul, jI_neg, jL_add, jL_sub, jL_mul, jL_neg, jL_I, jI_div, jI_mod, jL_div, jL_mod] at c
      omega
    | succ q ih =>
      rintro l p ps lL pL h' hq hp6 hi hp a1 a2 a3 F rfl rfl
      have hlD := Nat.le_of_dvd hD0 hi.1.2.1
      have hl0 := hi.1.1
      have hp3 := hi.1.2.2.2.1
      have hpo := hi.1.2.2.1
      have r194 : ∀ (l' : Nat) (ps' : List Nat) (lL : Int64) (h2 : mj_H), p ≤ d.natAbs → opI d.natAbs l' (p + 2) ps' → isMp h2 ps' → isMT h2 d w n A cls cnt nm → isMg T o h2 → isMs (gnS T o f0 (st0 T)) h2 → FrM iBe jAny sBe h h2 → lL = jL l' → Run 194 (l191 d (some (.long lL)) none (some (.long (jL p))) none) [] h2 (0, 0) := by
        rintro l' ps' lL h2 hpD hi2 hp2 b1 b2 b3 F2 rfl
        refine hR 60 104 _ _ _ _ _ _ rfl ?_
        exact ih l' (p + 2) ps' _ _ h2 (by omega) (by omega) hi2 hp2 b1 b2 b3 F2 rfl (by rw [jL_add]; rfl)
      have r144 : p ≤ l → Run 144 (l191 d (some (.long (jL l))) none (some (.long (jL p))) none) [] h' (0, 0) := by
        intro hpl
        have em : jL (l : Int) % jL (p : Int) = jL ((l % p : Nat) : Int) := by
          rw [jL_mod (by omega) (by omega) (by omega) (by omega)]
          rfl
        have hml := Nat.mod_lt l (show 0 < p by omega)
        have hlen := opI_len hD1 hi hpl
        have yes : p ∣ l → Run 156 (l191 d (some (.long (jL l))) none (some (.long (jL p))) none) [] h' (0, 0) := by
          intro hdv
          have hpp := ppr_of (by omega) hi.1.2.2.1 hi.2.1 hdv
          have r177 : ∀ (q2 l' : Nat) (lL : Int64) (h2 : mj_H), l' ≤ q2 → 0 < l' → l' ∣ l → prodL ps * p * l' ≤ d.natAbs ∨ l' = l → (∀ q, Pr q → q ∣ l → q = p ∨ q ∣ l') → isMp h2 (ps ++ [p]) → isMT h2 d w n A cls cnt nm → isMg T o h2 → isMs (gnS T o f0 (st0 T)) h2 → FrM iBe jAny sBe h h2 → lL = jL l' → Run 177 (l191 d (some (.long lL)) none (some (.long (jL p))) none) [] h2 (0, 0) := by
            intro q2
            induction q2 with
            | zero => intro l' lL h2 ht2 hl0; omega
            | succ q2 ih2 =>
              rintro l' lL h2 ht2 hl0 hll hpr hqs hp2 b1 b2 b3 F2 rfl
              have hl'D := Nat.le_of_dvd (by omega) hll
              have em2 : jL (l' : Int) % jL (p : Int) = jL ((l' % p : Nat) : Int) := by
                rw [jL_mod (by omega) (by omega) (by omega) (by omega)]
                rfl
              have hml2 := Nat.mod_lt l' (show 0 < p by omega)
              have r186 : p ∣ l' → Run 186 (l191 d (some (.long (jL l'))) none (some (.long (jL p))) none) [] h2 (0, 0) := by
                intro hdv2
                obtain ⟨r, hr⟩ := hdv2
                have er : jL (l' : Int) / jL (p : Int) = jL (r : Int) := by
                  rw [jL_div (by omega) (by omega) (by omega) (by omega), Int.tdiv_eq_ediv_of_nonneg (by omega), hr, Int.natCast_mul, Int.mul_ediv_cancel_left _ (by omega)]
                have hr0 : 0 < r := by
                  rcases Nat.eq_zero_or_pos r with z | z
                  · rw [z, Nat.mul_zero] at hr
                    omega
                  · exact z
                have hrl : r ∣ l' := ⟨p, by rw [hr, Nat.mul_comm]⟩
                have h2r : 2 * r ≤ p * r := Nat.mul_le_mul_right _ (by omega)
                refine hR 60 99 _ _ _ _ _ _ rfl ?_
                refine ⟨?_, ?_⟩
                · simp (disch := omega) only [mj_lcm, jI_lt, jI_le, jI_eq, jL_lt, jL_le, jL_eq, jI_lt0, jI_0le, jI_0lt, jI_le0, jI_eq0, jL_eq0, jI_L, jI_add, jI_sub, jI_mul, jI_neg, jL_add, jL_sub, jL_mul, jL_neg, jL_I, jI_div, jI_mod, jL_div, jL_mod]
                  omega
                · refine ih2 r _ h2 (by omega) hr0 (Nat.dvd_trans hrl hll) (Or.inl ?_) (fun q hq hql => ?_) hp2 b1 b2 b3 F2 er
                  · rcases hpr with z | z
                    · have : prodL ps * p * r ≤ prodL ps * p * l' := Nat.mul_le_mul_left _ (by omega)
                      omega
                    · rw [Nat.mul_assoc, ← hr, z]
                      exact hi.1.2.2.2.2.2
                  · rcases hqs q hq hql with z | z
                    · exact Or.inl z
                    · rw [hr] at z
                      rcases pr_mul hq z with y | y
                      · rcases hpp.2 q y with x | x
                        · have := hq.1
                          omega
                        · exact Or.inl x
                      · exact Or.inr y
              refine hR 60 93 _ _ _ _ _ _ rfl ?_
              refine ⟨?_, ?_⟩
              · simp (disch := omega) only [mj_lcm, jI_lt, jI_le, jI_eq, jL_lt, jL_le, jL_eq, jI_lt0, jI_0le, jI_0lt, jI_le0, jI_eq0, jL_eq0, jI_L, jI_add, jI_sub, jI_mul, jI_neg, jL_add, jL_sub, jL_mul, jL_neg, jL_I, jI_div, jI_mod, jL_div, jL_mod]
                omega
              · rw [em2]
                refine ⟨fun c3 => ?_, fun c3 => ?_⟩
                · simp (disch := omega) only [mj_lcm, jI_lt, jI_le, jI_eq, jL_lt, jL_le, jL_eq, jI_lt0, jI_0le, jI_0lt, jI_le0, jI_eq0, jL_eq0, jI_L, jI_add, jI_sub, jI_mul, jI_neg, jL_add, jL_sub, jL_mul, jL_neg, jL_I, jI_div, jI_mod, jL_div, jL_mod] at c3
                  exact r186 (Nat.dvd_of_mod_eq_zero (by omega))
                · simp (disch := omega) only [mj_lcm, jI_lt, jI_le, jI_eq, jL_lt, jL_le, jL_eq, jI_lt0, jI_0le, jI_0lt, jI_le0, jI_eq0, jL_eq0, jI_L, jI_add, jI_sub, jI_mul, jI_neg, jL_add, jL_sub, jL_mul, jL_neg, jL_I, jI_div, jI_mod, jL_div, jL_mod] at c3
                  have hnd : ¬ p ∣ l' := fun z => by
                    have := Nat.mod_eq_zero_of_dvd z
                    omega
                  have hpr' : prodL ps * p * l' ≤ d.natAbs := by
                    rcases hpr with z | z
                    · exact z
                    · exact absurd (z ▸ hdv) hnd
                  exact r194 l' (ps ++ [p]) _ h2 (by omega) (opI_put hi hdv hl0 hll hpr' hqs hnd) hp2 b1 b2 b3 F2 rfl
          have r167 : ∀ (h2 : mj_H), hI h2 1412 17 = jI ps.length → (∀ i q, (ps ++ [p])[i]? = some q → hJ h2 1422 i = jL (q : Nat)) → isMT h2 d w n A cls cnt nm → isMg T o h2 → isMs (gnS T o f0 (st0 T)) h2 → FrM iBe jAny sBe h h2 → Run 167 (l191 d (some (.long (jL l))) none (some (.long (jL p))) none) [] h2 (0, 0) := by
            intro h2 e17 hps b1 b2 b3 F2
            have k2 := (F2.lay L).K 1412 rfl
            have F3 : FrM (fun k => k = 17) noT noT h2 (sI h2 1412 17 (hI h2 1412 17 + jI 1)) := (FrM.refl (fun k => k = 17) noT noT h2).fI (k := 17) rfl _
            refine hR 60 87 _ _ _ _ _ _ rfl ?_
            refine ⟨k2, k2, ?_⟩
            refine r177 l l _ _ (Nat.le_refl _) hl0 (Nat.dvd_refl _) (Or.inr rfl) (fun q hq hql => Or.inr hql) ⟨?_, ?_, fun i q hq => hps i q hq⟩ (b1.M F3 (by omega) ⟨fun z => z, fun z => z⟩ (fun _ _ z => z)) (b2.M F3 (by omega) (fun z => z)) (b3.M F3 (by omega) (fun _ _ z => z)) (upBe F2 F3 (by omega) (fun _ z => z.elim)) rfl
            · rw [sI_at, e17, jI_add]
              simp only [List.length_append, List.length_cons, List.length_nil]
              rfl
            · simp only [List.length_append, List.length_cons, List.length_nil]
              omega
          have L' := F.lay L
          refine hR 60 81 _ _ _ _ _ _ rfl ?_
          refine ⟨L'.K 1412 rfl, _, L'.R 1412 18 _ rfl, L'.K 1412 rfl, L'.K 1422 rfl, ?_, ?_⟩
          · rw [hp.1, show hN h' 1422 = 8 from L'.N 1421 rfl]
            exact jI_in (by omega) (by omega) (by omega)
          · rw [hp.1, nat (by omega)]
            have F3 : FrM noT noT (fun c => c = 1422) h' (sJ h' 1422 ps.length (jL p)) := (FrM.refl noT noT (fun c => c = 1422) h').aJ (c := 1422) rfl (by decide) _ _
            refine r167 _ hp.1 (fun i q hq => ?_) (a1.M F3 ⟨fun z => z, fun z => z⟩ ⟨fun z => z, fun z => z⟩ (fun x hx => by omega)) (a2.M F3 (fun z => z) (by omega)) (a3.M F3 ⟨fun z => z, fun z => z⟩ (fun x hx => by omega)) (upBe F F3 (fun z => z) (fun c hc => by omega))
            by_cases e : i = ps.length
            · subst e
              rw [List.getElem?_append_right (Nat.le_refl _), Nat.sub_self] at hq
              have h9 : some p = some q := hq
              rw [← Option.some.inj h9, sJ_at]
            · have hil := lt_of_some hq
              simp only [List.length_append, List.length_cons, List.length_nil] at hil
              rw [List.getElem?_append_left (by omega)] at hq
              rw [sJ_k _ _ e]
              exact hp.2.2 i q hq
        refine hR 60 74 _ _ _ _ _ _ rfl ?_
        refine ⟨?_, ?_⟩
        · simp (disch := omega) only [mj_lcm, jI_lt, jI_le, jI_eq, jL_lt, jL_le, jL_eq, jI_lt0, jI_0le, jI_0lt, jI_le0, jI_eq0, jL_eq0, jI_L, jI_add, jI_sub, jI_mul, jI_neg, jL_add, jL_sub, jL_mul, jL_neg, jL_I, jI_div, jI_mod, jL_div, jL_mod]
          omega
        · rw [em]
          refine ⟨fun c => ?_, fun c => ?_⟩
          · simp (disch := omega) only [mj_lcm, jI_lt, jI_le, jI_eq, jL_lt, jL_le, jL_eq, jI_lt0, jI_0le, jI_0lt, jI_le0, jI_eq0, jL_eq0, jI_L, jI_add, jI_sub, jI_mul, jI_neg, jL_add, jL_sub, jL_mul, jL_neg, jL_I, jI_div, jI_mod, jL_div, jL_mod] at c
            exact yes (Nat.dvd_of_mod_eq_zero (by omega))
          · simp (disch := omega) only [mj_lcm, jI_lt, jI_le, jI_eq, jL_lt, jL_le, jL_eq, jI_lt0, jI_0le, jI_0lt, jI_le0, jI_eq0, jL_eq0, jI_L, jI_add, jI_sub, jI_mul, jI_neg, jL_add, jL_sub, jL_mul, jL_neg, jL_I, jI_div, jI_mod, jL_div, jL_mod] at c
            have hnd : ¬ p ∣ l := fun z => by
              have := Nat.mod_eq_zero_of_dvd z
              omega
            exact r194 l ps _ h' (by omega) (opI_next hi hnd) hp a1 a2 a3 F rfl
      refine hR 60 70 _ _ _ _ _ _ rfl ?_
      refine ⟨fun c => ?_, fun c => ?_⟩
      · simp only [mj_lcm] at c
        simp (disch := omega) only [mj_lcm, jI_lt, jI_le, jI_eq, jL_lt, jL_le, jL_eq, jI_lt0, jI_0le, jI_0lt, jI_le0, jI_eq0, jL_eq0, jI_L, jI_add, jI_sub, jI_mul, jI_neg, jL_add, jL_sub, jL_mul, jL_neg, jL_I, jI_div, jI_mod, jL_div, jL_mod] at c
        exact r205 h' _ _ _ _ a1 a2 a3 ⟨ps, opI_end hi (by omega), hp⟩ F
      · simp only [mj_lcm] at c
        simp (disch := omega) only [mj_lcm, jI_lt, jI_le, jI_eq, jL_lt, jL_le, jL_eq, jI_lt0, jI_0le, jI_0lt, jI_le0, jI_eq0, jL_eq0, jI_L, jI_add, jI_sub, jI_mul, jI_neg, jL_add, jL_sub, jL_mul, jL_neg, jL_I, jI_div, jI_mod, jL_div, jL_mod] at c
        exact r144 (by omega)
  have r132 : ∀ (lL : Int64) (x5 x6 : Option Value) (h' : mj_H), hI h' 1412 17 = jI 0 → isMT h' d w n A cls cnt nm → isMg T o h' → isMs (gnS T o f0 (st0 T)) h' → FrM iBe jAny sBe h h' → lL = jL d.natAbs → Run 132 (l191 d (some (.long lL)) none x5 x6) [] h' (0, 0) := by
    rintro lL y5 y6 h' e17 a1 a2 a3 F rfl
    refine hR 60 68 _ _ _ _ _ _ rfl ?_
    refine r137 (d.natAbs + 1) d.natAbs 3 [] _ _ h' (by omega) (by omega) ⟨⟨hD0, Nat.dvd_refl _, rfl, by decide, by decide, ?_⟩, fun q h1 h2 h3 => ?_, fun q hq => absurd hq (by simp), fun i j q r _ hq => absurd hq (by simp), fun q h1 h2 h3 => Or.inr h3⟩ ⟨e17, by decide, fun i q hq => absurd hq (by simp)⟩ a1 a2 a3 F rfl rfl
    · show 1 * _ ≤ _
      omega
    · have := h1.1
      omega
  have r119 : ∀ (x3 x4 x5 x6 : Option Value) (h' : mj_H), isMT h' d w n A cls cnt nm → isMg T o h' → isMs (gnS T o f0 (st0 T)) h' → FrM iBe jAny sBe h h' → Run 119 (l191 d x3 x4 x5 x6) [] h' (0, 0) := by
    intro y3 y4 y5 y6 h' a1 a2 a3 F
    have k' := (F.lay L).K 1412 rfl
    have F3 : FrM (fun k => k = 17) noT noT h' (sI h' 1412 17 (jI 0)) := (FrM.refl (fun k => k = 17) noT noT h').fI (k := 17) rfl _
    have a4 := a1.M F3 (by omega) ⟨fun z => z, fun z => z⟩ (fun _ _ z => z)
    have r124 : ∀ (h3 : mj_H), hI h3 1412 17 = jI 0 → isMT h3 d w n A cls cnt nm → isMg T o h3 → isMs (gnS T o f0 (st0 T)) h3 → FrM iBe jAny sBe h h3 → Run 124 (l191 d y3 y4 y5 y6) [] h3 (0, 0) := by
      intro h3 e17 b1 b2 b3 F3
      refine hR 60 64 _ _ _ _ _ _ rfl ?_
      refine ⟨(F3.lay L).K 1412 rfl, ?_⟩
      rw [b1.2.2.1]
      refine jcall (ct_196 G (x := d) (by omega) (by omega) h3) ?_
      exact r132 _ _ _ h3 e17 b1 b2 b3 F3 rfl
    refine hR 60 61 _ _ _ _ _ _ rfl ?_
    refine ⟨k', ?_⟩
    exact r124 _ (sI_at _ _ _ _) a4 (a2.M F3 (by omega) (fun z => z)) (a3.M F3 (by omega) (fun _ _ z => z)) (upBe F F3 (by omega) (fun _ z => z.elim))
  have r115 : ∀ (x3 x4 x5 x6 : Option Value) (h' : mj_H), isMT h' d w n A cls cnt nm → isMg T o h' → FrM iBe jAny sBe h h' → Run 115 (l191 d x3 x4 x5 x6) [] h' (0, 0) := by
    intro y3 y4 y5 y6 h' a1 a2 F
    have L' := F.lay L
    refine hR 60 59 _ _ _ _ _ _ rfl ?_
    refine ⟨L'.K 1412 rfl, jcallP (ct_210 G L' T hwp hfr a1 a2 ho hok) ?_⟩
    rintro oc h3 ⟨rfl, s3, F3⟩
    exact r119 _ _ _ _ h3 (a1.M F3 (by omega) (by omega) (fun x hx => by omega)) (a2.M F3 (by omega) (by omega)) s3 (upBe F F3 (by omega) (fun c hc => by omega))
  have r87 : ∀ (q i : Nat) (iI : Int32) (h' : mj_H) (x4 x5 x6 : Option Value), i + q = cnt → isMT h' d w n A cls cnt nm → hI h' 1412 14 = jI (oneC T).val → (∀ y : Fin cnt, y.val < i → hI h' 1417 y.val = jI (o y)) → (∀ y : Fin cnt, hI h' 1417 y.val = jI 0 ∨ hI h' 1417 y.val = jI (o y)) → FrM iBe jAny sBe h h' → iI = jI i → Run 87 (l191 d (some (.int iI)) x4 x5 x6) [] h' (0, 0) := by
    intro q
    induction q with
    | zero =>
      rintro i iI h' y4 y5 y6 hq a1 hP ha hb F rfl
      refine hR 60 45 _ _ _ _ _ _ rfl ?_
      refine ⟨(F.lay L).K 1412 rfl, ?_⟩
      rw [a1.2.1.1]
      refine ⟨fun c => r115 _ _ _ _ h' a1 ⟨hP, fun y => ha y (by have := y.isLt; omega)⟩ F, fun c => ?_⟩
      simp (disch := omega) only [mj_lcm, jI_lt, jI_le, jI_eq, jL_lt, jL_le, jL_eq, jI_lt0, jI_0le, jI_0lt, jI_le0, jI_eq0, jL_eq0, jI_L, jI_add, jI_sub, jI_mul, jI_neg, jL_add, jL_sub, jL_mul, jL_neg, jL_I, jI_div, jI_mod, jL_div, jL_mod] at c
      omega
    | succ q ih =>
      rintro i iI h' y4 y5 y6 hq a1 hP ha hb F rfl
      have L0 := F.lay L
      have hic : i < cnt := by omega
      have hbi := hb ⟨i, hic⟩
      have hoi0 := (ho ⟨i, hic⟩).1.1
      simp only at hbi
      have r109 : ∀ (h2 : mj_H), isMT h2 d w n A cls cnt nm → hI h2 1412 14 = jI (oneC T).val → (∀ y : Fin cnt, y.val < i + 1 → hI h2 1417 y.val = jI (o y)) → (∀ y : Fin cnt, hI h2 1417 y.val = jI 0 ∨ hI h2 1417 y.val = jI (o y)) → FrM iBe jAny sBe h h2 → Run 109 (l191 d (some (.int (jI i))) y4 y5 y6) [] h2 (0, 0) := by
        intro h2 b1 hP2 ha2 hb2 F2
        refine hR 60 57 _ _ _ _ _ _ rfl ?_
        exact ih (i + 1) _ h2 _ _ _ (by omega) b1 hP2 ha2 hb2 F2 (by rw [jI_add]; rfl)
      have r104 : Run 104 (l191 d (some (.int (jI i))) y4 y5 y6) [] h' (0, 0) := by
        refine hR 60 54 _ _ _ _ _ _ rfl ?_
        refine ⟨L0.K 1412 rfl, jcallP (ct_203 G L0 T hwp hfr a1 hP ho ⟨i, hic⟩) ?_⟩
        rintro oo h2 ⟨rfl, p1, p2, p3⟩
        refine r109 h2 (a1.M p3 (by omega) (by omega) (fun x hx => by omega)) ((p3.2.2.1 14 (by omega)).trans hP) (fun y hy => ?_) (fun y => ?_) (upBe F p3 (by omega) (fun c hc => by omega))
        · by_cases e : y.val = i
          · have e1 : y = ⟨i, hic⟩ := Fin.ext e
            have := p1 1
            rw [pw_one (gpC T)] at this
            rw [e1]
            exact this
          · rcases p2 y with g | g
            · rw [g]
              exact ha y (by omega)
            · exact g
        · rcases p2 y with g | g
          · rw [g]
            exact hb y
          · exact Or.inr g
      have r95 : Run 95 (l191 d (some (.int (jI i))) y4 y5 y6) [] h' (0, 0) := by
        refine hR 60 49 _ _ _ _ _ _ rfl ?_
        refine ⟨L0.K 1412 rfl, _, L0.R 1412 9 _ rfl, Or.inl (L0.K 1417 rfl), ?_, ?_⟩
        · rw [show hN h' 1417 = 4096 from L0.N 1416 rfl]
          exact jI_in (by omega) (by omega) (by omega)
        · rw [nat (by omega)]
          refine ⟨fun c2 => r104, fun c2 => ?_⟩
          refine r109 h' a1 hP (fun y hy => ?_) hb F
          by_cases e : y.val = i
          · have e1 : y = ⟨i, hic⟩ := Fin.ext e
            rw [e1]
            rcases hbi with g | g
            · exact absurd g (fun z => c2 (by rw [z]; rfl))
            · exact g
          · exact ha y (by omega)
      refine hR 60 45 _ _ _ _ _ _ rfl ?_
      refine ⟨L0.K 1412 rfl, ?_⟩
      rw [a1.2.1.1]
      refine ⟨fun c => ?_, fun c => r95⟩
      simp (disch := omega) only [mj_lcm, jI_lt, jI_le, jI_eq, jL_lt, jL_le, jL_eq, jI_lt0, jI_0le, jI_0lt, jI_le0, jI_eq0, jL_eq0, jI_L, jI_add, jI_sub, jI_mul, jI_neg, jL_add, jL_sub, jL_mul, jL_neg, jL_I, jI_div, jI_mod, jL_div, jL_mod] at c
      omega
  have r64 : ∀ (q i : Nat) (iI : Int32) (h' : mj_H) (x4 x5 x6 : Option Value), i + q = cnt → isMT h' d w n A cls cnt nm → hI h' 1412 14 = jI (oneC T).val → (∀ j, j < i → hI h' 1417 j = jI 0) → FrM iBe jAny sBe h h' → iI = jI i → Run 64 (l191 d (some (.int iI)) x4 x5 x6) [] h' (0, 0) := by
    intro q
    induction q with
    | zero =>
      rintro i iI h' y4 y5 y6 hq a1 hP ha F rfl
      have r85 : Run 85 (l191 d (some (.int (jI i))) y4 y5 y6) [] h' (0, 0) := by
        refine hR 60 43 _ _ _ _ _ _ rfl ?_
        exact r87 cnt 0 _ h' _ _ _ (by omega) a1 hP (fun y hy => absurd hy (Nat.not_lt_zero _)) (fun y => Or.inl (ha y.val (by have := y.isLt; omega))) F rfl
      refine hR 60 32 _ _ _ _ _ _ rfl ?_
      refine ⟨(F.lay L).K 1412 rfl, ?_⟩
      rw [a1.2.1.1]
      refine ⟨fun c => r85, fun c => ?_⟩
      simp (disch := omega) only [mj_lcm, jI_lt, jI_le, jI_eq, jL_lt, jL_le, jL_eq, jI_lt0, jI_0le, jI_0lt, jI_le0, jI_eq0, jL_eq0, jI_L, jI_add, jI_sub, jI_mul, jI_neg, jL_add, jL_sub, jL_mul, jL_neg, jL_I, jI_div, jI_mod, jL_div, jL_mod] at c
      omega
    | succ q ih =>
      rintro i iI h' y4 y5 y6 hq a1 hP ha F rfl
      have L0 := F.lay L
      have r72 : Run 72 (l191 d (some (.int (jI i))) y4 y5 y6) [] h' (0, 0) := by
        refine hR 60 36 _ _ _ _ _ _ rfl ?_
        refine ⟨L0.K 1412 rfl, _, L0.R 1412 9 _ rfl, L0.K 1417 rfl, ?_, ?_⟩
        · rw [show hN h' 1417 = 4096 from L0.N 1416 rfl]
          exact jI_in (by omega) (by omega) (by omega)
        · rw [nat (by omega)]
          have F3 : FrM noT noT (fun c => c = 1417) h' (sI h' 1417 i (jI 0)) := (FrM.refl noT noT (fun c => c = 1417) h').aI (c := 1417) rfl (by decide) _ _
          exact ih (i + 1) _ _ _ _ _ (by omega) (a1.M F3 ⟨fun z => z, fun z => z⟩ ⟨fun z => z, fun z => z⟩ (fun x hx => by omega)) hP (aI_ext (X := fun _ => jI 0) ha) (upBe F F3 (fun z => z) (fun c hc => by omega)) (by rw [jI_add]; rfl)
      refine hR 60 32 _ _ _ _ _ _ rfl ?_
      refine ⟨L0.K 1412 rfl, ?_⟩
      rw [a1.2.1.1]
      refine ⟨fun c => ?_, fun c => r72⟩
      simp (disch := omega) only [mj_lcm, jI_lt, jI_le, jI_eq, jL_lt, jL_le, jL_eq, jI_lt0, jI_0le, jI_0lt, jI_le0, jI_eq0, jL_eq0, jI_L, jI_add, jI_sub, jI_mul, jI_neg, jL_add, jL_sub, jL_mul, jL_neg, jL_I, jI_div, jI_mod, jL_div, jL_mod] at c
      omega
  have r62 : ∀ (x3 x4 x5 x6 : Option Value) (h' : mj_H), isMT h' d w n A cls cnt nm → hI h' 1412 14 = jI (oneC T).val → FrM iBe jAny sBe h h' → Run 62 (l191 d x3 x4 x5 x6) [] h' (0, 0) := by
    intro y3 y4 y5 y6 h' a1 hP F
    refine hR 60 30 _ _ _ _ _ _ rfl ?_
    exact r64 cnt 0 _ h' _ _ _ (by omega) a1 hP (fun j hj => absurd hj (Nat.not_lt_zero _)) F rfl
  have r54 : ∀ (x3 x4 x5 x6 : Option Value) (h' : mj_H), isMT h' d w n A cls cnt nm → isMm h' (prF d) → FrM iBe jAny sBe h h' → Run 54 (l191 d x3 x4 x5 x6) [] h' (0, 0) := by
    intro y3 y4 y5 y6 h' a1 hmm F
    have L' := F.lay L
    refine hR 60 26 _ _ _ _ _ _ rfl ?_
    refine ⟨L'.K 1412 rfl, jcallP (ct_202 G L' a1.1 hS a1.2.1 a1.2.2 (by omega) hd0 hwb hmm ht hpo hk (by rw [hkf]; exact ⟨rfl, rfl⟩)) ?_⟩
    rintro oc h3 ⟨rfl, m3, F3⟩
    refine ⟨(F3.lay L').K 1412 rfl, ?_⟩
    have F4 : FrM (fun k => k = 14) noT noT h3 (sI h3 1412 14 (jI (cls k))) := (FrM.refl (fun k => k = 14) noT noT h3).fI (k := 14) rfl _
    refine r62 _ _ _ _ _ ((a1.M F3 ⟨fun z => z, fun z => z⟩ (by omega) (fun _ _ z => z)).M F4 (by omega) ⟨fun z => z, fun z => z⟩ (fun _ _ z => z)) ?_ (upBe (upBe F F3 (fun z => z) (fun _ z => z.elim)) F4 (by omega) (fun _ z => z.elim))
    rw [sI_at, hcls]
  have r39 : ∀ (x3 x4 x5 x6 : Option Value) (h' : mj_H), isMT h' d w n A cls cnt nm → FrM iBe jAny sBe h h' → Run 39 (l191 d x3 x4 x5 x6) [] h' (0, 0) := by
    intro y3 y4 y5 y6 h' a1 F
    have L' := F.lay L
    refine hR 60 19 _ _ _ _ _ _ rfl ?_
    refine ⟨L'.K 1412 rfl, ?_⟩
    rw [a1.2.2.1]
    refine jcall (ct_200 G (x := d) (y := 2) (by omega) (by omega) (by omega) (by omega) h') ?_
    refine ⟨L'.K 1412 rfl, jcallP (ct_194 G L' a1.2.2 (by omega) (x := 1) (y := d % 2) (by omega) (by omega) (by omega)) ?_⟩
    rintro oc h3 ⟨rfl, m3, F3⟩
    rw [prF_fmP hdd] at m3
    exact r54 _ _ _ _ h3 (a1.M F3 ⟨fun z => z, fun z => z⟩ (by omega) (fun _ _ z => z)) m3 (upBe F F3 (fun z => z) (fun _ z => z.elim))
  have r35 : ∀ (x3 x4 x5 x6 : Option Value) (h' : mj_H), isMa h' n A → (∀ i, i < n → hI h' 1415 i = jI (-1)) → isMw h' d w → FrM iBe jAny sBe h h' → Run 35 (l191 d x3 x4 x5 x6) [] h' (0, 0) := by
    intro y3 y4 y5 y6 h' a1 h15 a2 F
    have L' := F.lay L
    have c198 := ct_198 G L' a1 hS a2 (by omega) hd0 hwb hx h15 hcl4
    rw [ec.1, ec.2.1, ec.2.2] at c198
    refine hR 60 17 _ _ _ _ _ _ rfl ?_
    refine ⟨L'.K 1412 rfl, jcallP c198 ?_⟩
    rintro oc h3 ⟨rfl, m3, F3⟩
    exact r39 _ _ _ _ h3 ⟨a1.M F3 (by omega) (by omega) (by omega), m3, a2.M F3 (by omega) (by omega)⟩ (upBe F F3 (by omega) (fun c hc => by omega))
  have r31 : ∀ (x3 x4 x5 x6 : Option Value) (h' : mj_H), isMw h' d w → FrM iBe jAny sBe h h' → Run 31 (l191 d x3 x4 x5 x6) [] h' (0, 0) := by
    intro y3 y4 y5 y6 h' a2 F
    have L' := F.lay L
    refine hR 60 15 _ _ _ _ _ _ rfl ?_
    refine ⟨L'.K 1412 rfl, jcallP (ct_193 G L' a2 hd hnsq hwp hw4 he (by omega)) ?_⟩
    rintro oc h3 ⟨rfl, m3, F3⟩
    have m4 := m3.ma
    rw [el, eA] at m4
    exact r35 _ _ _ _ h3 m4.1 m4.2 (a2.M F3 (by omega) (by omega)) (upBe F F3 (by omega) (fun c hc => by omega))
  have r28 : ∀ (wL : Int64) (x3 x4 x5 x6 : Option Value) (h' : mj_H), hJ h' 1412 1 = jL d → FrM iBe jAny sBe h h' → wL = jL w → Run 28 (l191 d x3 x4 x5 x6) [.long wL, .ref 1412] h' (0, 0) := by
    rintro wL y3 y4 y5 y6 h' e1 F rfl
    refine hR 60 14 _ _ _ _ _ _ rfl ?_
    refine ⟨(F.lay L).K 1412 rfl, ?_⟩
    exact r31 _ _ _ _ _ ⟨e1, rfl⟩ (F.fJ (k := 2) (by decide) _)
  have r5 : ∀ (x3 x4 x5 x6 : Option Value) (h' : mj_H), hJ h' 1412 1 = jL d → FrM iBe jAny sBe h h' → Run 5 (l191 d x3 x4 x5 x6) [] h' (0, 0) := by
    intro y3 y4 y5 y6 h' e1 F
    have k' := (F.lay L).K 1412 rfl
    refine hR 60 3 _ _ _ _ _ _ rfl ?_
    refine ⟨k', fun c => ⟨k', ?_⟩, fun c => ?_⟩
    · simp only [mj_lcm, e1] at c
      simp (disch := omega) only [mj_lcm, jI_lt, jI_le, jI_eq, jL_lt, jL_le, jL_eq, jI_lt0, jI_0le, jI_0lt, jI_le0, jI_eq0, jL_eq0, jI_L, jI_add, jI_sub, jI_mul, jI_neg, jL_add, jL_sub, jL_mul, jL_neg, jL_I, jI_div, jI_mod, jL_div, jL_mod] at c
      rw [e1]
      refine jcallP (ct_192 G (v := d) (by omega) (by omega) h') ?_
      rintro oc h3 ⟨rfl, w0, rfl, w1, w2, w3, w4⟩
      refine r28 _ _ _ _ _ _ e1 F ?_
      rcases hwp with z | z
      · omega
      · rw [isWd_unique z.2 ⟨w1, w3, w4⟩]
    · simp only [mj_lcm, e1] at c
      simp (disch := omega) only [mj_lcm, jI_lt, jI_le, jI_eq, jL_lt, jL_le, jL_eq, jI_lt0, jI_0le, jI_0lt, jI_le0, jI_eq0, jL_eq0, jI_L, jI_add, jI_sub, jI_mul, jI_neg, jL_add, jL_sub, jL_mul, jL_neg, jL_I, jI_div, jI_mod, jL_div, jL_mod] at c
      refine r28 _ _ _ _ _ _ e1 F ?_
      rcases hwp with z | z
      · rw [z.2]
      · omega
  refine hR 60 0 _ _ _ _ _ _ rfl ?_
  refine ⟨L.K 1412 rfl, ?_⟩
  exact r5 _ _ _ _ _ rfl ((FrM.refl iBe jAny sBe h).fJ (k := 1) (by decide) _)
end
