/-! the law from its beginning -/
/-- the house is laid -/
theorem Cb.lay {zx : (Nat → Int32) × Nat} {h : mj_H} (c : Cb zx 1412 (fun x _ => 1 ≤ x ∧ x < 1412) h) : isLay h ∧ isM0 h 8 ∧ isM0 h 99 ∧ isM0 h 114 ∧ isRt h 74 75 := by
  have L : isLay h := by
    refine ⟨fun a ha => c.2.1 a ha, fun a k q e => ?_⟩
    have ha : a < 1412 := by
      rcases Nat.lt_or_ge a 1412 with z | z
      · exact z
      · exfalso
        have e1 : Nat.blt a 1412 = false := Bool.eq_false_iff.2 (fun y => by rw [Nat.blt_eq] at y; omega)
        unfold lyRc at e
        rw [e1] at e
        cases e
    rw [lyRc_p ha] at e
    by_cases s : spc a = true
    · have hs : a = 8 ∨ a = 99 ∨ a = 114 ∨ a = 73 ∨ a = 127 := by
        unfold spc at s
        simp only [Bool.or_eq_true] at s
        rcases s with (((s | s) | s) | s) | s <;> have := Nat.eq_of_beq_eq_true s <;> omega
      rcases hs with rfl | rfl | rfl | rfl | rfl
      · have z : (none : Option Nat) = some q := e
        cases z
      · have z : (none : Option Nat) = some q := e
        cases z
      · have z : (none : Option Nat) = some q := e
        cases z
      · have z : (none : Option Nat) = some q := e
        cases z
      · exact c.2.2.1 127 k q e (by omega)
    · have s' : spc a = false := Bool.eq_false_iff.2 s
      have hne : a ≠ 0 ∨ a = 0 := by omega
      refine c.2.2.1 a k q ?_ ?_
      · unfold lyR2
        rw [s']
        unfold lyRf at e
        have e1 : Nat.beq a 127 = false := Bool.eq_false_iff.2 (fun y => by
          have := Nat.eq_of_beq_eq_true y
          subst this
          exact s rfl)
        rw [e1] at e
        exact e
      · refine ⟨?_, ha⟩
        rcases Nat.eq_zero_or_pos a with z | z
        · subst z
          have y : (none : Option Nat) = some q := e
          cases y
        · exact z
  have mx : ∀ a, a = 8 ∨ a = 99 ∨ a = 114 → (∀ k, k < 6 → lyR2 a k = some (a + 1 + 2 * k)) → hK h a = 14 → (∀ k, k < 6 → isW0 h (a + 1 + 2 * k)) → isM0 h a := by
    intro a ha hr hk hw
    have r : ∀ k, k < 6 → hR h a k = some (a + 1 + 2 * k) := fun k hk => c.2.2.1 a k _ (hr k hk) (by omega)
    exact ⟨a + 1, a + 3, a + 5, a + 7, hk, r 0 (by omega), r 1 (by omega), r 2 (by omega), r 3 (by omega), r 4 (by omega), r 5 (by omega), by omega, Or.inl ⟨rfl, rfl⟩, Or.inl ⟨rfl, rfl⟩, hw 0 (by omega), hw 1 (by omega), hw 2 (by omega), hw 3 (by omega), hw 4 (by omega), hw 5 (by omega)⟩
  refine ⟨L, mx 8 (by omega) (by decide) (L.K 8 rfl) ?_, mx 99 (by omega) (by decide) (L.K 99 rfl) ?_, mx 114 (by omega) (by decide) (L.K 114 rfl) ?_, c.2.2.1 73 1 74 rfl (by omega), c.2.2.1 73 2 75 rfl (by omega), c.2.2.1 73 4 76 rfl (by omega), Or.inl ⟨rfl, rfl⟩⟩
  · intro k hk
    have : ∀ k, k < 6 → wOk (8 + 1 + 2 * k) = true := by decide
    exact L.W _ (this k hk)
  · intro k hk
    have : ∀ k, k < 6 → wOk (99 + 1 + 2 * k) = true := by decide
    exact L.W _ (this k hk)
  · intro k hk
    have : ∀ k, k < 6 → wOk (114 + 1 + 2 * k) = true := by decide
    exact L.W _ (this k hk)
/-- the model is laid -/
theorem Cb.lam {zx : (Nat → Int32) × Nat} {h : mj_H} {P : Nat → Nat → Prop} (c : Cb zx 1441 P h) (hP : ∀ y, P 1412 y) : isLam h := by
  refine ⟨fun a h1 h2 => ?_, fun k q e => c.2.2.1 1412 k q e (hP k)⟩
  obtain ⟨c1, c2⟩ := c.2.1 a h2
  refine ⟨c1, ?_⟩
  rcases c2 with z | z
  · omega
  · exact z
theorem Cb.ofLay {zx : (Nat → Int32) × Nat} {h : mj_H} (L : isLay h) (ht : hT h = 1412) (h0 : h.1 0 = zx.1 ∧ hN h 0 = zx.2) : Cb zx 1412 (fun _ _ => False) h := ⟨ht, fun c hc => L.1 c hc, fun _ _ _ _ z => z.elim, by decide, h0⟩
abbrev l0L (x1 x2 x3 x4 x5 x6 : Option Value) : mj_Ls := [some (.ref 0), x1, x2, x3, x4, x5, x6]
/-- the law, from the start: both begin at -4, then the loop -/
theorem law_all (G : mj_G) {I : mj_H → Prop} {Ln : Nat} {xs : Nat → Int32} (hi : lawI I Ln xs) (hLn : Ln ≤ 2048) (hops : lawOps G I Ln xs) {Run : mj_K} (hR : mj_closed G cx_law cd_law (fun o _ => o = .returned (some (.int (jI 1)))) Run) {h0 : mj_H} (c0 : Cb (xs, Ln) 1 (fun _ _ => False) h0) {PC : mj_H → Prop} (hbC : ∀ h', Cb (xs, Ln) 1412 (fun x _ => 1 ≤ x ∧ x < 1412) h' → mj_Ct G (mj_mt 18) 0 0 [.ref 1, .long (jL (-4))] h' (fun o h'' => o = .returned none ∧ PC h'')) (hPC : ∀ h', PC h' → Cb (xs, Ln) 1412 (fun _ _ => False) h') {PM : mj_H → Prop} (hbM : ∀ h1 h', PC h1 → Cb (xs, Ln) 1441 (fun x _ => x = 1412 ∨ (1412 < x ∧ x < 1441)) h' → Em h1 h' → (∀ k, hI h' 1440 k = 0) → mj_Ct G (mj_mt 191) 0 0 [.ref 1412, .long (jL (-4))] h' (fun o h'' => o = .returned none ∧ PM h'')) (hPM : ∀ h', PM h' → hT h' = 1441 ∧ I (hNew h' 2 1)) {bc bs : Nat} (hbc : 1955 ≤ bc) (hbs : 2000000 ≤ bs) : Run 0 (l0L none none none none none none) [] h0 (bc, bs) := by
  have r20 : ∀ (h' : mj_H) (x4 x5 x6 : Option Value) (b1 b2 : Nat), I h' → 512 ≤ b1 → 3072 ≤ b2 → Run 20 (l0L (some (.ref 1)) (some (.ref 1412)) (some (.ref 1441)) x4 x5 x6) [] h' (b1, b2) := by
    intro h' x4 x5 x6 b1 b2 hI' hb1 hb2
    refine hR 60 11 _ _ _ _ _ _ rfl ?_
    exact law_loop G hi hLn hops hR 512 0 _ _ _ h' _ _ (by omega) (by omega) hb1 (by omega) hI' rfl
  have r19 : ∀ (h' : mj_H) (a : Nat) (x3 x4 x5 x6 : Option Value) (b1 b2 : Nat), a = 1441 → I h' → 512 ≤ b1 → 3072 ≤ b2 → Run 19 (l0L (some (.ref 1)) (some (.ref 1412)) x3 x4 x5 x6) [.ref a] h' (b1, b2) := by
    rintro h' a x3 x4 x5 x6 b1 b2 rfl hI' hb1 hb2
    refine hR 60 10 _ _ _ _ _ _ rfl ?_
    exact r20 h' _ _ _ _ _ hI' hb1 hb2
  have r16 : ∀ (h' : mj_H) (x3 x4 x5 x6 : Option Value) (b1 b2 : Nat), PM h' → 513 ≤ b1 → 3073 ≤ b2 → Run 16 (l0L (some (.ref 1)) (some (.ref 1412)) x3 x4 x5 x6) [] h' (b1, b2) := by
    intro h' x3 x4 x5 x6 b1 b2 hp hb1 hb2
    obtain ⟨ht, hI'⟩ := hPM h' hp
    have e1 : (jI 1).toNatClampNeg = 1 := by decide
    refine hR 60 8 _ _ _ _ _ _ rfl ?_
    refine ⟨⟨by decide, by decide, by omega, by rw [e1]; omega⟩, ?_⟩
    rw [e1]
    exact r19 _ _ _ _ _ _ _ _ ht hI' (by omega) (by omega)
  have r15 : ∀ (h' : mj_H) (a : Nat) (x2 x3 x4 x5 x6 : Option Value) (b1 b2 : Nat), a = 1412 → PM h' → 513 ≤ b1 → 3073 ≤ b2 → Run 15 (l0L (some (.ref 1)) x2 x3 x4 x5 x6) [.ref a] h' (b1, b2) := by
    rintro h' a x2 x3 x4 x5 x6 b1 b2 rfl hp hb1 hb2
    refine hR 60 7 _ _ _ _ _ _ rfl ?_
    exact r16 h' _ _ _ _ _ _ hp hb1 hb2
  have r8 : ∀ (h' : mj_H) (x2 x3 x4 x5 x6 : Option Value) (b1 b2 : Nat), PC h' → 542 ≤ b1 → 1000000 ≤ b2 → Run 8 (l0L (some (.ref 1)) x2 x3 x4 x5 x6) [] h' (b1, b2) := by
    intro h' x2 x3 x4 x5 x6 b1 b2 hp hb1 hb2
    have c := hPC h' hp
    have c1 := c.new (kd := 27) (n := 0) (fun x y p => p.elim) rfl rfl
    have m1 : Em h' (hNew h' 27 0) := by
      refine ⟨fun c2 hc => ⟨?_, ?_, ?_, hNew_kd h' 27 0 (by have := c.1; omega)⟩, ?_, ?_⟩
      · funext k
        exact hNew_I h' 27 0 (by have := c.1; omega) k
      · funext k
        exact hNew_J h' 27 0 (by have := c.1; omega) k
      · funext k
        exact hNew_R h' 27 0 (by have := c.1; omega) k
      · show (if 1412 = hT h' then (0 : Int64) else h'.2.1 1412 54) = 0
        rw [if_pos c.1.symm]
      · show (if 1412 = hT h' then (0 : Int64) else h'.2.1 1412 55) = 0
        rw [if_pos c.1.symm]
    refine hR 60 4 _ _ _ _ _ _ rfl ?_
    refine ⟨⟨by omega, by omega⟩, jcallB (ct_190 G c.1 c1 m1 (fun h2 q1 q2 q3 => hbM h' h2 hp q1 q2 q3)) (Nat.ble_eq_true_of_le (by omega)) (Nat.ble_eq_true_of_le (by omega)) ?_⟩
    intro h2 p2
    exact r15 h2 _ _ _ _ _ _ _ _ c.1 p2 (by omega) (by omega)
  have r7 : ∀ (h' : mj_H) (a : Nat) (x1 x2 x3 x4 x5 x6 : Option Value) (b1 b2 : Nat), a = 1 → PC h' → 542 ≤ b1 → 1000000 ≤ b2 → Run 7 (l0L x1 x2 x3 x4 x5 x6) [.ref a] h' (b1, b2) := by
    rintro h' a x1 x2 x3 x4 x5 x6 b1 b2 rfl hp hb1 hb2
    refine hR 60 3 _ _ _ _ _ _ rfl ?_
    exact r8 h' _ _ _ _ _ _ _ hp hb1 hb2
  have c1 := c0.new (kd := 10) (n := 0) (fun x y p => p.elim) rfl rfl
  refine hR 60 0 _ _ _ _ _ _ rfl ?_
  refine ⟨⟨by omega, by omega⟩, jcallB (ct_0_1 G c0.1 c1 hbC) (Nat.ble_eq_true_of_le (by omega)) (Nat.ble_eq_true_of_le (by omega)) ?_⟩
  intro h2 p2
  exact r7 h2 _ _ _ _ _ _ _ _ _ c0.1 p2 (by omega) (by omega)
