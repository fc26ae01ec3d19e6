/-! primes, and the group of the classes -/
def Pr (p : Nat) : Prop := 2 ≤ p ∧ ∀ m, m ∣ p → m = 1 ∨ m = p
theorem ex_pr : ∀ (k n : Nat), n ≤ k → 2 ≤ n → ∃ p, Pr p ∧ p ∣ n := by
  intro k
  induction k with
  | zero => intro n h1 h2; omega
  | succ k ih =>
    intro n h1 h2
    by_cases h : ∃ m, m ∣ n ∧ m ≠ 1 ∧ m ≠ n
    · obtain ⟨m, hm, m1, m2⟩ := h
      have hle := Nat.le_of_dvd (by omega) hm
      have m0 : m ≠ 0 := by
        intro h0
        rw [h0] at hm
        have := Nat.eq_zero_of_zero_dvd hm
        omega
      obtain ⟨p, p1, p2⟩ := ih m (by omega) (by omega)
      exact ⟨p, p1, Nat.dvd_trans p2 hm⟩
    · refine ⟨n, ⟨h2, fun m hm => ?_⟩, Nat.dvd_refl n⟩
      by_cases m1 : m = 1
      · exact Or.inl m1
      · by_cases m2 : m = n
        · exact Or.inr m2
        · exact absurd ⟨m, hm, m1, m2⟩ h
theorem pr_cop {p a : Nat} (hp : Pr p) (h : ¬ p ∣ a) : Nat.gcd p a = 1 := by
  rcases hp.2 _ (Nat.gcd_dvd_left p a) with g | g
  · exact g
  · exact absurd (g ▸ Nat.gcd_dvd_right p a) h
theorem pr_mul {p a b : Nat} (hp : Pr p) (h : p ∣ a * b) : p ∣ a ∨ p ∣ b := by
  by_cases g : p ∣ a
  · exact Or.inl g
  · exact Or.inr (Nat.Coprime.dvd_of_dvd_mul_left (pr_cop hp g) h)
theorem pr_mulI {p : Nat} {a b : Int} (hp : Pr p) (h : (p : Int) ∣ a * b) : (p : Int) ∣ a ∨ (p : Int) ∣ b := by
  have h1 := Int.natAbs_dvd_natAbs.2 h
  rw [Int.natAbs_natCast, Int.natAbs_mul] at h1
  rcases pr_mul hp h1 with g | g
  · exact Or.inl (Int.natAbs_dvd_natAbs.1 (by rw [Int.natAbs_natCast]; exact g))
  · exact Or.inr (Int.natAbs_dvd_natAbs.1 (by rw [Int.natAbs_natCast]; exact g))
/-- nothing in common, if no prime goes into both -/
theorem cop_of {a b : Nat} (hb : 0 < b) (h : ∀ p, Pr p → p ∣ a → p ∣ b → False) : Nat.gcd a b = 1 := by
  have hg : 0 < Nat.gcd a b := Nat.gcd_pos_of_pos_right _ hb
  rcases Nat.lt_or_ge (Nat.gcd a b) 2 with g | g
  · omega
  · obtain ⟨p, p1, p2⟩ := ex_pr _ _ (Nat.le_refl _) g
    exact (h p p1 (Nat.dvd_trans p2 (Nat.gcd_dvd_left a b)) (Nat.dvd_trans p2 (Nat.gcd_dvd_right a b))).elim
theorem cop_not {p a b : Nat} (hp : Pr p) (h : Nat.gcd a b = 1) (h1 : p ∣ a) (h2 : p ∣ b) : False := by
  have := Nat.dvd_gcd h1 h2
  rw [h] at this
  have := Nat.le_of_dvd (by decide) this
  have := hp.1
  omega
theorem cop_split : ∀ (k N a : Nat), N ≤ k → 0 < N → ∃ M R, N = M * R ∧ Nat.gcd M a = 1 ∧ ∀ p, Pr p → p ∣ R → p ∣ a := by
  intro k
  induction k with
  | zero => intro N a h1 h2; omega
  | succ k ih =>
    intro N a h1 h2
    by_cases g1 : Nat.gcd N a = 1
    · refine ⟨N, 1, by omega, g1, fun p hp h => ?_⟩
      have := Nat.le_of_dvd (by decide) h
      have := hp.1
      omega
    · have hg : 0 < Nat.gcd N a := Nat.gcd_pos_of_pos_left _ h2
      obtain ⟨N', hN⟩ := Nat.gcd_dvd_left N a
      have hN0 : 0 < N' := by
        rcases Nat.eq_zero_or_pos N' with h | h
        · rw [h, Nat.mul_zero] at hN
          omega
        · exact h
      have hlt : N' < N := by
        have : 2 * N' ≤ Nat.gcd N a * N' := Nat.mul_le_mul_right _ (by omega)
        omega
      obtain ⟨M, R, e1, e2, e3⟩ := ih N' a (by omega) hN0
      refine ⟨M, Nat.gcd N a * R, by rw [Nat.mul_left_comm, ← e1]; exact hN, e2, fun p hp h => ?_⟩
      rcases pr_mul hp h with g | g
      · exact Nat.dvd_trans g (Nat.gcd_dvd_right N a)
      · exact e3 p hp g
theorem bez1 {a b : Int} (h : Int.gcd a b = 1) : ∃ x y : Int, x * a + y * b = 1 := by
  obtain ⟨x, y, e⟩ := bez a b
  rw [h] at e
  exact ⟨x, y, by rw [Int.mul_comm x, Int.mul_comm y]; exact e⟩
/-- a class has forms whose first number has nothing in common with another number -/
theorem cop_rep {f : Fm} (hp : Prim f) {N : Int} (hN : N ≠ 0) : ∃ f', Eqv f f' ∧ ∃ x y : Int, x * f'.1 + y * N = 1 := by
  obtain ⟨N1, R1, e1, c1, d1⟩ := cop_split _ N.natAbs f.1.natAbs (Nat.le_refl _) (by omega)
  have hR1 : 0 < R1 := by
    rcases Nat.eq_zero_or_pos R1 with h | h
    · rw [h, Nat.mul_zero] at e1
      omega
    · exact h
  have hN1 : 0 < N1 := by
    rcases Nat.eq_zero_or_pos N1 with h | h
    · rw [h, Nat.zero_mul] at e1
      omega
    · exact h
  obtain ⟨N2, R2, e2, c2, d2⟩ := cop_split _ R1 f.2.2.natAbs (Nat.le_refl _) hR1
  have toI : ∀ {p : Nat} {z : Int}, p ∣ z.natAbs → (p : Int) ∣ z := fun h => Int.natAbs_dvd_natAbs.1 (by rw [Int.natAbs_natCast]; exact h)
  have ofI : ∀ {p : Nat} {z : Int}, (p : Int) ∣ z → p ∣ z.natAbs := fun h => by
    have := Int.natAbs_dvd_natAbs.2 h
    rwa [Int.natAbs_natCast] at this
  have toN : ∀ {p n : Nat}, (p : Int) ∣ (n : Int) → p ∣ n := fun h => by
    have := ofI h
    rwa [Int.natAbs_natCast] at this
  have hcop : Nat.gcd N2 N1 = 1 := by
    refine cop_of hN1 (fun p hp h1 h2 => ?_)
    exact cop_not hp c1 h2 (d1 p hp (e2 ▸ Nat.dvd_mul_right_of_dvd h1 R2))
  obtain ⟨s, q, hsq⟩ := bez1 (a := N2) (b := N1) (by rw [Int.gcd_natCast_natCast]; exact hcop)
  refine ⟨acF f N2 (-q) N1 s, ⟨N2, -q, N1, s, by grind, rfl⟩, ?_⟩
  rw [acF_1]
  refine bez1 ?_
  have : Int.gcd (evF f N2 N1) N = Nat.gcd (evF f N2 N1).natAbs N.natAbs := rfl
  rw [this]
  refine cop_of (by omega) (fun p hp h1 h2 => ?_)
  have h1' := toI h1
  rw [e1] at h2
  have hx : ¬ (p ∣ N2 ∧ p ∣ N1) := fun h => cop_not hp hcop h.1 h.2
  rcases pr_mul hp h2 with g | g
  · -- it goes into y, not into a
    have gy : (p : Int) ∣ (N1 : Int) := Int.natCast_dvd_natCast.2 g
    have : (p : Int) ∣ f.1 * (N2 * N2) := by
      have h3 : f.1 * (N2 * N2) = evF f N2 N1 - (f.2.1 * N2 + f.2.2 * N1) * N1 := by
        simp only [evF]
        grind
      rw [h3]
      exact Int.dvd_sub h1' (Int.dvd_mul_of_dvd_right gy)
    rcases pr_mulI hp this with h | h
    · exact cop_not hp c1 g (ofI h)
    · rcases pr_mulI hp h with h | h
      · exact hx ⟨toN h, g⟩
      · exact hx ⟨toN h, g⟩
  · have ga := toI (d1 p hp g)
    rw [e2] at g
    rcases pr_mul hp g with g | g
    · have gx : (p : Int) ∣ (N2 : Int) := Int.natCast_dvd_natCast.2 g
      have : (p : Int) ∣ f.2.2 * (N1 * N1) := by
        have h3 : f.2.2 * (N1 * N1) = evF f N2 N1 - (f.1 * N2 + f.2.1 * N1) * N2 := by
          simp only [evF]
          grind
        rw [h3]
        exact Int.dvd_sub h1' (Int.dvd_mul_of_dvd_right gx)
      rcases pr_mulI hp this with h | h
      · exact cop_not hp c2 g (ofI h)
      · rcases pr_mulI hp h with h | h
        · exact hx ⟨g, toN h⟩
        · exact hx ⟨g, toN h⟩
    · have gc := toI (d2 p hp g)
      have : (p : Int) ∣ f.2.1 * (N2 * N1) := by
        have h3 : f.2.1 * (N2 * N1) = evF f N2 N1 - (N2 * N2) * f.1 - (N1 * N1) * f.2.2 := by
          simp only [evF]
          grind
        rw [h3]
        exact Int.dvd_sub (Int.dvd_sub h1' (Int.dvd_mul_of_dvd_right ga)) (Int.dvd_mul_of_dvd_right gc)
      rcases pr_mulI hp this with h | h
      · obtain ⟨u, v, w, e⟩ := (by assumption : Prim f)
        have : (p : Int) ∣ 1 := by
          rw [← e]
          exact Int.dvd_add (Int.dvd_add (Int.dvd_mul_of_dvd_right ga) (Int.dvd_mul_of_dvd_right h)) (Int.dvd_mul_of_dvd_right gc)
        have := Int.le_of_dvd (by decide) this
        have := hp.1
        omega
      · rcases pr_mulI hp h with h | h
        · exact cop_not hp c2 (toN h) (ofI gc)
        · exact cop_not hp c1 (toN h) (ofI ga)
/-- a form that counts, of a discriminant -/
def Vld (d : Int) (f : Fm) : Prop := dF f = d ∧ Prim f ∧ (d < 0 → 0 < f.1)
theorem def_pos {d : Int} {f : Fm} (hd : d < 0) (hD : dF f = d) (ha : 0 < f.1) {x y : Int} (h : x ≠ 0 ∨ y ≠ 0) : 0 < evF f x y := by
  obtain ⟨a, b, c⟩ := f
  simp only [dF] at hD ha
  have e : 4 * a * evF (a, b, c) x y = (2 * a * x + b * y) * (2 * a * x + b * y) + (-d) * (y * y) := by
    simp only [evF]
    grind
  refine pos_of_mul (show 0 < 4 * a by omega) ?_
  rw [e]
  have h1 := sqn (2 * a * x + b * y)
  by_cases hy : y = 0
  · subst hy
    have hx : x ≠ 0 := by omega
    have : 0 < (2 * a * x) * (2 * a * x) := by
      have : 0 < x * x := by
        rcases Int.lt_or_gt_of_ne hx with g | g
        · exact Int.mul_pos_of_neg_of_neg g g
        · exact Int.mul_pos g g
      have h2 : 0 < (4 * (a * a)) * (x * x) := Int.mul_pos (Int.mul_pos (by decide) (Int.mul_pos ha ha)) this
      grind
    grind
  · have : 0 < y * y := by
      rcases Int.lt_or_gt_of_ne hy with g | g
      · exact Int.mul_pos_of_neg_of_neg g g
      · exact Int.mul_pos g g
    have h2 : 0 < (-d) * (y * y) := Int.mul_pos (by omega) this
    omega
theorem vld_eqv {d : Int} {f g : Fm} (he : Eqv f g) (h : Vld d f) : Vld d g := by
  obtain ⟨h1, h2, h3⟩ := h
  refine ⟨by rw [eqv_d he]; exact h1, prim_eqv he h2, fun hd => ?_⟩
  obtain ⟨p, q, r, s, e, rfl⟩ := he
  rw [acF_1]
  refine def_pos hd h1 (h3 hd) ?_
  by_cases g : p = 0
  · refine Or.inr (fun g2 => ?_)
    rw [g, g2] at e
    omega
  · exact Or.inl g
theorem vld_1 {d : Int} {f : Fm} (hn : nsq d) (h : Vld d f) : f.1 ≠ 0 := nsq_1 hn h.1
theorem four_ev (A B C x y : Int) : (4 * (A * (x * x) + B * (x * y) + C * (y * y))) * A = (2 * A * x + B * y) * (2 * A * x + B * y) + (-(B * B - 4 * A * C)) * (y * y) := by grind
theorem cmp_vld {d : Int} {f g k : Fm} (hn : nsq d) (hf : Vld d f) (hg : Vld d g) (h : Cmp f g k) : Vld d k := by
  have hD : dF k = d := by rw [cmp_d h]; exact hf.1
  refine ⟨hD, cmp_prim hf.2.1 hg.2.1 h, fun hd => ?_⟩
  have hk1 := nsq_1 hn hD
  obtain ⟨p0, p1, p2, p3, q0, q1, q2, q3, h1, h2, h3, h4, h5, h6, h7, h8, h9⟩ := h
  have hf1 := hf.2.2 hd
  have hg1 := hg.2.2 hd
  obtain ⟨A, B, C⟩ := k
  simp only at h7 h8 h9 hk1 ⊢
  have m1 : f.1 * g.1 = A * (p0 * p0) + B * (p0 * q0) + C * (q0 * q0) := by rw [← h7, ← h8, ← h9, ← h1, ← h2]; grind
  have hpos : 0 < f.1 * g.1 := Int.mul_pos hf1 hg1
  simp only [dF] at hD
  have e : (4 * (f.1 * g.1)) * A = (2 * A * p0 + B * q0) * (2 * A * p0 + B * q0) + (-d) * (q0 * q0) := by
    rw [m1, ← hD]
    exact four_ev A B C p0 q0
  have h10 := sqn (2 * A * p0 + B * q0)
  have h11 : 0 ≤ (-d) * (q0 * q0) := Int.mul_nonneg (by omega) (sqn q0)
  rcases Int.lt_or_le A 0 with gg | gg
  · have := Int.mul_neg_of_pos_of_neg (show 0 < 4 * (f.1 * g.1) by omega) gg
    omega
  · omega
/-- there is a product -/
theorem cmp_ex {d : Int} {f g : Fm} (hn : nsq d) (hf : Vld d f) (hg : Vld d g) : ∃ k, Cmp f g k ∧ Vld d k := by
  obtain ⟨g', e1, x, y, e2⟩ := cop_rep hg.2.1 (vld_1 hn hf)
  have hg' := vld_eqv e1 hg
  obtain ⟨b, c, e, e', h1, h2, h3⟩ := concord hf.1 hg'.1 (x := y) (y := x) (by omega)
  have s1 := slide_to (x := g'.1 * c) hf.1 (vld_1 hn hf) h1 (by rw [← h3]; grind)
  have s2 := slide_to (x := f.1 * c) hg'.1 (vld_1 hn hg') h2 (by rw [← h3]; grind)
  have hc : Cmp f g (f.1 * g'.1, b, c) := cmp_eqv1 (cmp_eqv2 (cmp_dir f.1 g'.1 b c) (eqv_trans (eqv_symm s2) (eqv_symm e1))) (eqv_symm s1)
  exact ⟨_, hc, cmp_vld hn hf hg hc⟩
theorem cmp_assoc {d : Int} {f g l k m k' m' : Fm} (hn : nsq d) (hf : Vld d f) (hg : Vld d g) (hl : Vld d l) (h1 : Cmp f g k) (h2 : Cmp k l m) (h3 : Cmp g l k') (h4 : Cmp f k' m') : Eqv m m' := by
  obtain ⟨g1, eg, x, y, e2⟩ := cop_rep hg.2.1 (vld_1 hn hf)
  have hg1 := vld_eqv eg hg
  have hne : f.1 * g1.1 ≠ 0 := by
    intro h
    rcases Int.mul_eq_zero.1 h with h | h
    · exact vld_1 hn hf h
    · exact vld_1 hn hg1 h
  obtain ⟨l1, el, x', y', e3⟩ := cop_rep hl.2.1 hne
  have hl1 := vld_eqv el hl
  obtain ⟨b, c, e, e', i1, i2, i3⟩ := concord hf.1 hg1.1 (x := y) (y := x) (by omega)
  have hFd : dF (f.1 * g1.1, b, c) = d := by simp only [dF]; exact i3
  obtain ⟨B, C, t, t', j1, j2, j3⟩ := concord (f := (f.1 * g1.1, b, c)) hFd hl1.1 (x := y') (y := x') (by simp only; omega)
  simp only at j1 j3
  have sf := slide_to (x := g1.1 * c) hf.1 (vld_1 hn hf) i1 (by rw [← i3]; grind)
  have sg := slide_to (x := f.1 * c) hg1.1 (vld_1 hn hg1) i2 (by rw [← i3]; grind)
  have cF : Cmp f g (f.1 * g1.1, b, c) := cmp_eqv1 (cmp_eqv2 (cmp_dir f.1 g1.1 b c) (eqv_trans (eqv_symm sg) (eqv_symm eg))) (eqv_symm sf)
  have eF := cmp_unique hf.2.1 h1 cF
  have sF := slide_to (f := (f.1 * g1.1, b, c)) (x := l1.1 * C) hFd hne j1 (by simp only; rw [← j3]; grind)
  simp only at sF
  have sl := slide_to (x := (f.1 * g1.1) * C) hl1.1 (vld_1 hn hl1) j2 (by rw [← j3]; grind)
  have cm : Cmp k l ((f.1 * g1.1) * l1.1, B, C) := cmp_eqv1 (cmp_eqv2 (cmp_dir (f.1 * g1.1) l1.1 B C) (eqv_trans (eqv_symm sl) (eqv_symm el))) (eqv_trans (eqv_symm sF) (eqv_symm eF))
  have hk := cmp_vld hn hf hg h1
  have em := cmp_unique hk.2.1 h2 cm
  -- the other way
  have sg2 := slide_to (e := e' + f.1 * t) (b := B) (x := l1.1 * (f.1 * C)) hg1.1 (vld_1 hn hg1) (by rw [j1, i2]; grind) (by rw [← j3]; grind)
  have sl2 : Eqv l1 (l1.1, B, g1.1 * (f.1 * C)) := by
    rw [show g1.1 * (f.1 * C) = (f.1 * g1.1) * C by grind]
    exact sl
  have ck : Cmp g l (g1.1 * l1.1, B, f.1 * C) := cmp_eqv1 (cmp_eqv2 (cmp_dir g1.1 l1.1 B (f.1 * C)) (eqv_trans (eqv_symm sl2) (eqv_symm el))) (eqv_trans (eqv_symm sg2) (eqv_symm eg))
  have ek := cmp_unique hg.2.1 h3 ck
  have sf2 := slide_to (e := e + g1.1 * t) (b := B) (x := (g1.1 * l1.1) * C) hf.1 (vld_1 hn hf) (by rw [j1, i1]; grind) (by rw [← j3]; grind)
  have cm2 : Cmp f k' (f.1 * (g1.1 * l1.1), B, C) := cmp_eqv1 (cmp_eqv2 (cmp_dir f.1 (g1.1 * l1.1) B C) (eqv_symm ek)) (eqv_symm sf2)
  have em2 := cmp_unique hf.2.1 h4 cm2
  refine eqv_trans em (eqv_trans ?_ (eqv_symm em2))
  rw [Int.mul_assoc]
  exact eqv_refl _
/-- the principal form -/
def prF (d : Int) : Fm := (1, d % 2, (d % 2 - d) / 4)
def isDd (d : Int) : Prop := d % 4 = 0 ∨ d % 4 = 1
theorem prF_d {d : Int} (h : isDd d) : dF (prF d) = d := by
  unfold isDd at h
  have hp : d % 2 = 0 ∨ d % 2 = 1 := by omega
  simp only [prF, dF]
  rcases hp with e | e <;> rw [e] <;> omega
theorem prF_vld {d : Int} (h : isDd d) : Vld d (prF d) := ⟨prF_d h, ⟨1, 0, 0, by simp [prF]⟩, fun _ => by simp [prF]⟩
theorem prF_mid {d : Int} (h : isDd d) {f : Fm} (hf : dF f = d) : Eqv (prF d) (1, f.2.1, f.1 * f.2.2) := by
  obtain ⟨m, hm⟩ := par_d ((prF_d h).trans hf.symm)
  have := slide_to (f := prF d) (b := f.2.1) (e := m) (x := f.1 * f.2.2) (prF_d h) (by simp [prF]) (by simp only [prF] at hm ⊢; omega) (by simp only [prF, dF] at hf ⊢; grind)
  exact this
theorem cmp_one {d : Int} (h : isDd d) {f : Fm} (hf : dF f = d) : Cmp (prF d) f f := by
  have := cmp_eqv1 (cmp_dir 1 f.1 f.2.1 f.2.2) (eqv_symm (prF_mid h hf))
  simp only [Int.one_mul] at this
  exact this
theorem cmp_inv {d : Int} (h : isDd d) {f : Fm} (hf : dF f = d) : Cmp f (f.1, -f.2.1, f.2.2) (prF d) := by
  have h1 := cmp_dir f.1 f.2.2 f.2.1 1
  simp only [Int.mul_one] at h1
  have e1 : Eqv (f.2.2, f.2.1, f.1) (f.1, -f.2.1, f.2.2) := by
    refine ⟨0, -1, 1, 0, by decide, ?_⟩
    simp only [acF, Prod.mk.injEq]
    refine ⟨by grind, by grind, by grind⟩
  have e2 : Eqv (f.1 * f.2.2, f.2.1, 1) (1, -f.2.1, f.1 * f.2.2) := by
    refine ⟨0, -1, 1, 0, by decide, ?_⟩
    simp only [acF, Prod.mk.injEq]
    refine ⟨by grind, by grind, by grind⟩
  have e3 := prF_mid h (f := (f.1, -f.2.1, f.2.2)) (by simp only [dF] at hf ⊢; grind)
  exact cmp_eqv3 (cmp_eqv2 h1 e1) (eqv_trans e2 (eqv_symm e3))
theorem inv_eqv {f g : Fm} (h : Eqv f g) : Eqv (f.1, -f.2.1, f.2.2) (g.1, -g.2.1, g.2.2) := by
  obtain ⟨p, q, r, s, h1, rfl⟩ := h
  refine ⟨p, -q, -r, s, by grind, ?_⟩
  simp only [acF, Prod.mk.injEq]
  refine ⟨by grind, by grind, by grind⟩
