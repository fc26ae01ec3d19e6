/-! every primitive form has a near value without common divisor -/
theorem KK_mem {u : Nat × Nat} (h : u ∈ KK) : pvN u ∧ frB u = true := by
  have := List.all_eq_true.1 KK_ok u h
  rw [Bool.and_eq_true] at this
  refine ⟨?_, this.2⟩
  have e : Nat.gcd (dst u.1 64) u.2 = 1 := Nat.eq_of_beq_eq_true this.1
  rw [dst_abs] at e
  have e2 : Int.gcd (xN u) (yN u) = 1 := by
    unfold xN yN Int.gcd
    rw [Int.natAbs_natCast]
    exact e
  exact bez1 e2
theorem fr_of {f : Fm} {n : Int} {u : Nat × Nat} (h : frB u = true) (hg : Int.gcd (evN f u) n = 1) : fr7 f n := by
  have e : frB u = ((Nat.beq u.2 1 && (Nat.ble 57 u.1 && Nat.ble u.1 71)) || ((Nat.beq u.2 0 && Nat.beq u.1 63) || (Nat.ble u.2 7 && (Nat.ble 64 (u.1 + 1 + u.2 * u.2) && (Nat.beq ((u.1 + 1 + u.2 * u.2 - 64) % u.2) 0 && Nat.ble ((u.1 + 1 + u.2 * u.2 - 64) / u.2) (2 * u.2)))))) := rfl
  rw [e] at h
  simp only [Bool.or_eq_true, Bool.and_eq_true, Nat.beq_eq, Nat.ble_eq] at h
  have one : ∀ k : Int, (toF (slF k f)).1 = evF f k 1 := by
    intro k
    show f.1 * k * k + f.2.1 * k + f.2.2 = f.1 * k * k + f.2.1 * k * 1 + f.2.2 * 1 * 1
    grind
  have two : ∀ k y : Int, (toF (slF y (toF (slF k f)))).1 = evF f (k * y - 1) y := by
    intro k y
    show (f.1 * k * k + f.2.1 * k + f.2.2) * y * y + -(f.2.1 + 2 * f.1 * k) * y + f.1 = f.1 * (k * y - 1) * (k * y - 1) + f.2.1 * (k * y - 1) * y + f.2.2 * y * y
    grind
  unfold evN xN yN at hg
  rcases h with ⟨h1, h2, h3⟩ | ⟨h1, h2⟩ | ⟨h1, h2, h3, h4⟩
  · refine ⟨7, (u.1 : Int) - 64, by omega, by omega, Or.inl ?_⟩
    rw [one]
    rw [h1] at hg
    exact hg
  · refine ⟨0, 0, by omega, by omega, Or.inr ?_⟩
    rw [two]
    rw [h1, h2] at hg
    exact hg
  · rcases Nat.eq_zero_or_pos u.2 with z | z
    · rw [z, Nat.mod_zero] at h3
      rw [z] at h2
      have hu : u.1 = 63 := by omega
      refine ⟨0, 0, by omega, by omega, Or.inr ?_⟩
      rw [two]
      rw [z, hu] at hg
      exact hg
    · obtain ⟨k, hk⟩ := Nat.dvd_of_mod_eq_zero h3
      rw [hk, Nat.mul_div_cancel_left _ z] at h4
      have hx : ((u.1 : Int) - 64) = ((k : Int) - u.2) * u.2 - 1 := by
        have e1 : ((u.1 + 1 + u.2 * u.2 : Nat) : Int) = (u.2 * k + 64 : Nat) := by
          have : u.1 + 1 + u.2 * u.2 = u.2 * k + 64 := by omega
          rw [this]
        push_cast at e1
        grind
      refine ⟨u.2, (k : Int) - u.2, by omega, by omega, Or.inr ?_⟩
      rw [two, ← hx]
      exact hg
theorem pr_pow {p a : Nat} (hp : Pr p) : ∀ n, p ∣ a ^ n → p ∣ a
  | 0, h => by
    have := Nat.le_of_dvd Nat.one_pos h
    have := hp.1
    omega
  | n + 1, h => by
    rw [Nat.pow_succ] at h
    rcases pr_mul hp h with z | z
    · exact pr_pow hp n z
    · exact z
theorem bigP {D : Nat} (h0 : 0 < D) (m : Nat) : ∃ Lp : List Nat, Lp.Pairwise (· < ·) ∧ ∀ p, p ∈ Lp ↔ (Pr p ∧ p % 2 = 1 ∧ p ∣ D ∧ m ≤ p) := by
  have hb : ∀ p : Nat, ∃ b : Bool, b = true ↔ (Pr p ∧ p % 2 = 1 ∧ p ∣ D ∧ m ≤ p) := by
    intro p
    by_cases c : Pr p ∧ p % 2 = 1 ∧ p ∣ D ∧ m ≤ p
    · exact ⟨true, iff_of_true rfl c⟩
    · exact ⟨false, iff_of_false (by decide) c⟩
  obtain ⟨b, hb⟩ := Classical.axiomOfChoice hb
  refine ⟨(List.range (D + 1)).filter b, List.pairwise_lt_range.filter _, fun p => ?_⟩
  rw [List.mem_filter, hb p, List.mem_range]
  refine ⟨fun h => h.2, fun h => ⟨?_, h⟩⟩
  have := Nat.le_of_dvd h0 h.2.2.1
  omega
theorem pr2310 {p : Nat} (hp : Pr p) (h : p ∣ 2310) : p = 2 ∨ p = 3 ∨ p = 5 ∨ p = 7 ∨ p = 11 := by
  have h1 : p ∣ 2 * (3 * (5 * (7 * 11))) := h
  have le : ∀ x, 0 < x → p ∣ x → p ≤ x := fun x hx hd => Nat.le_of_dvd hx hd
  have two := hp.1
  have no : ∀ m, m ∣ p → m = 1 ∨ m = p := hp.2
  rcases pr_mul hp h1 with z | z
  · have := le 2 (by decide) z
    omega
  rcases pr_mul hp z with z | z
  · have := le 3 (by decide) z
    omega
  rcases pr_mul hp z with z | z
  · have h5 := le 5 (by decide) z
    have k4 : p ≠ 4 := fun y => by
      rw [y] at z
      omega
    omega
  rcases pr_mul hp z with z | z
  · have h5 := le 7 (by decide) z
    have k4 : p ≠ 4 := fun y => by (rw [y] at z; omega)
    have k6 : p ≠ 6 := fun y => by (rw [y] at z; omega)
    omega
  · have h5 := le 11 (by decide) z
    have k4 : p ≠ 4 := fun y => by (rw [y] at z; omega)
    have k6 : p ≠ 6 := fun y => by (rw [y] at z; omega)
    have k8 : p ≠ 8 := fun y => by (rw [y] at z; omega)
    have k9 : p ≠ 9 := fun y => by (rw [y] at z; omega)
    have k10 : p ≠ 10 := fun y => by (rw [y] at z; omega)
    omega
theorem fr_core {f : Fm} (hp : Prim f) {n : Int} (hn : 0 < n.natAbs ∧ n.natAbs ≤ 1024) {q need k S r : Nat} {s : List Nat} (hck : ckS q need s KK = true) (hs : ∀ l, l ∈ s → Pr l) (hq : ∀ l, Pr l → 2 * k + 3 ≤ l → ¬ l ∣ q) (hcov : ∀ p, Pr p → p ∣ n.natAbs → p ∈ s ∨ (p % 2 = 1 ∧ 2 * k + 3 ≤ p)) (hS : S ∣ n.natAbs) (hSm : ∀ p, Pr p → p ∣ S → p < 2 * k + 3) (hr : 1024 < S * lbN k (r + 1)) (hne : 2 * r + 1 ≤ need) : fr7 f n := by
  obtain ⟨Lp, pw, mem⟩ := bigP hn.1 (2 * k + 3)
  have len : Lp.length ≤ r := by
    rcases Nat.lt_or_ge r Lp.length with z | z
    · exfalso
      have l1 := lb_prod Lp k pw (fun p hp => by
        have := (mem p).1 hp
        exact ⟨this.2.1, this.2.2.2⟩)
      have l2 : prodL Lp ∣ n.natAbs := prodL_dv Lp pw (fun p hp => by
        have := (mem p).1 hp
        exact ⟨this.1, this.2.1, this.2.2.1⟩)
      have l3 := lbN_mono k (r + 1) (Lp.length - (r + 1))
      rw [show r + 1 + (Lp.length - (r + 1)) = Lp.length by omega] at l3
      have S0 : 0 < S := by
        rcases Nat.eq_zero_or_pos S with y | y
        · rw [y] at hS
          have := Nat.eq_zero_of_zero_dvd hS
          omega
        · exact y
      have P0 : 0 < prodL Lp := by
        rcases Nat.eq_zero_or_pos (prodL Lp) with y | y
        · rw [y] at l2
          have := Nat.eq_zero_of_zero_dvd l2
          omega
        · exact y
      have cop : Nat.gcd S (prodL Lp) = 1 := cop_of P0 (fun p pp p1 p2 => by
        have := pr_prodL pp Lp (fun q hq => ⟨((mem q).1 hq).1, ((mem q).1 hq).2.1⟩) p2
        have h1 := ((mem p).1 this).2.2.2
        have h2 := hSm p pp p1
        omega)
      have l4 := Nat.le_of_dvd hn.1 (Nat.Coprime.mul_dvd_of_dvd_of_dvd cop hS l2)
      have l5 : S * lbN k (r + 1) ≤ S * prodL Lp := Nat.mul_le_mul_left S (Nat.le_trans l3 l1)
      omega
    · exact z
  obtain ⟨u, u1, u2⟩ := cov hp (q := q) (need := need) (Lp := Lp) (fun l hl => by
    have := (mem l).1 hl
    exact ⟨this.1, hq l this.1 this.2.2.2⟩) (by omega) s KK hs (fun u hu => (KK_mem hu).1) hck
  refine fr_of (KK_mem u1).2 ?_
  unfold Int.gcd
  refine cop_of hn.1 (fun p pp p1 p2 => ?_)
  refine u2 p ?_ (Int.ofNat_dvd_left.2 p1)
  rcases hcov p pp p2 with z | z
  · exact Or.inl z
  · exact Or.inr ((mem p).2 ⟨pp, z.1, p2, z.2⟩)
theorem prs5 : Pr 2 ∧ Pr 3 ∧ Pr 5 ∧ Pr 7 ∧ Pr 11 := by
  have key : ∀ p : Nat, 2 ≤ p → (∀ m, 2 ≤ m → m < p → ¬ m ∣ p) → Pr p := by
    intro p hp h
    refine ⟨hp, fun m hm => ?_⟩
    have h1 := Nat.le_of_dvd (by omega) hm
    rcases Nat.lt_or_ge m 2 with z | z
    · have : m ≠ 0 := fun y => by
        subst y
        have := Nat.eq_zero_of_zero_dvd hm
        omega
      omega
    · rcases Nat.lt_or_ge m p with y | y
      · exact (h m z y hm).elim
      · omega
  refine ⟨key 2 (by decide) (fun m h1 h2 => by omega), key 3 (by decide) (fun m h1 h2 h3 => ?_), key 5 (by decide) (fun m h1 h2 h3 => ?_), key 7 (by decide) (fun m h1 h2 h3 => ?_), key 11 (by decide) (fun m h1 h2 h3 => ?_)⟩
  · have : m = 2 := by omega
    subst this
    omega
  · have : m = 2 ∨ m = 3 ∨ m = 4 := by omega
    rcases this with rfl | rfl | rfl <;> omega
  · have : m = 2 ∨ m = 3 ∨ m = 4 ∨ m = 5 ∨ m = 6 := by omega
    rcases this with rfl | rfl | rfl | rfl | rfl <;> omega
  · have : m = 2 ∨ m = 3 ∨ m = 4 ∨ m = 5 ∨ m = 6 ∨ m = 7 ∨ m = 8 ∨ m = 9 ∨ m = 10 := by omega
    rcases this with rfl | rfl | rfl | rfl | rfl | rfl | rfl | rfl | rfl <;> omega
theorem pr_small {p : Nat} (hp : Pr p) : p = 2 ∨ p = 3 ∨ p = 5 ∨ p = 7 ∨ p = 11 ∨ (p % 2 = 1 ∧ 13 ≤ p) := by
  have two := hp.1
  by_cases h2 : 2 ∣ p
  · rcases hp.2 2 h2 with z | z
    · omega
    · omega
  by_cases h3 : 3 ∣ p
  · rcases hp.2 3 h3 with z | z
    · omega
    · omega
  omega
/-- EVERY PRIMITIVE FORM IS NEAR ONE WITHOUT A COMMON DIVISOR -/
theorem fr_1024 {f : Fm} (hp : Prim f) {n : Int} (hn : 0 < n.natAbs ∧ n.natAbs ≤ 1024) : fr7 f n := by
  obtain ⟨p2, p3, p5, p7, p11⟩ := prs5
  have q30 : ∀ l, Pr l → 7 ≤ l → ¬ l ∣ 30 ^ 9 := fun l hl h7 hd => by
    have h1 := pr_pow hl 9 hd
    have h2 := pr2310 hl (Nat.dvd_trans h1 ⟨77, by decide⟩)
    have : l = 7 ∨ l = 11 := by omega
    rcases this with rfl | rfl <;> omega
  have q210 : ∀ l, Pr l → 11 ≤ l → ¬ l ∣ 210 ^ 9 := fun l hl h7 hd => by
    have h1 := pr_pow hl 9 hd
    have h2 := pr2310 hl (Nat.dvd_trans h1 ⟨11, by decide⟩)
    have : l = 11 := by omega
    subst this
    omega
  have q2310 : ∀ l, Pr l → 13 ≤ l → ¬ l ∣ 2310 ^ 9 := fun l hl h7 hd => by
    have h2 := pr2310 hl (pr_pow hl 9 hd)
    omega
  have lec : ∀ {a b : Nat} {p : Nat}, Pr p → p ∣ a → a ∣ 2310 → p = 2 ∨ p = 3 ∨ p = 5 ∨ p = 7 ∨ p = 11 := fun hp h1 h2 => pr2310 hp (Nat.dvd_trans h1 h2)
  by_cases h23 : 2 ∣ n.natAbs ∧ 3 ∣ n.natAbs
  · by_cases h5 : 5 ∣ n.natAbs
    · refine fr_core hp hn (k := 2) (S := 30) (r := 1) ckA (by simp only [List.mem_cons, List.not_mem_nil, or_false]; rintro l (rfl | rfl | rfl) <;> assumption) q30 (fun p pp hd => ?_) (by omega) (fun p pp hd => ?_) (by decide) (by decide)
      · have := pr_small pp
        simp only [List.mem_cons, List.not_mem_nil, or_false]
        omega
      · have := Nat.le_of_dvd (by decide) hd
        have := lec (b := 0) pp hd ⟨77, by decide⟩
        rcases this with rfl | rfl | rfl | rfl | rfl <;> omega
    · by_cases h7 : 7 ∣ n.natAbs
      · refine fr_core hp hn (k := 4) (S := 42) (r := 1) ckB (by simp only [List.mem_cons, List.not_mem_nil, or_false]; rintro l (rfl | rfl | rfl) <;> assumption) q210 (fun p pp hd => ?_) (by omega) (fun p pp hd => ?_) (by decide) (by decide)
        · have := pr_small pp
          have : p ≠ 5 := fun z => h5 (z ▸ hd)
          simp only [List.mem_cons, List.not_mem_nil, or_false]
          omega
        · have := lec (b := 0) pp hd ⟨55, by decide⟩
          rcases this with rfl | rfl | rfl | rfl | rfl <;> omega
      · by_cases h11 : 11 ∣ n.natAbs
        · refine fr_core hp hn (k := 5) (S := 66) (r := 1) ckC (by simp only [List.mem_cons, List.not_mem_nil, or_false]; rintro l (rfl | rfl | rfl) <;> assumption) q2310 (fun p pp hd => ?_) (by omega) (fun p pp hd => ?_) (by decide) (by decide)
          · have := pr_small pp
            have : p ≠ 5 := fun z => h5 (z ▸ hd)
            have : p ≠ 7 := fun z => h7 (z ▸ hd)
            simp only [List.mem_cons, List.not_mem_nil, or_false]
            omega
          · have := lec (b := 0) pp hd ⟨35, by decide⟩
            rcases this with rfl | rfl | rfl | rfl | rfl <;> omega
        · refine fr_core hp hn (k := 5) (S := 6) (r := 1) ckD (by simp only [List.mem_cons, List.not_mem_nil, or_false]; rintro l (rfl | rfl) <;> assumption) q2310 (fun p pp hd => ?_) (by omega) (fun p pp hd => ?_) (by decide) (by decide)
          · have := pr_small pp
            have : p ≠ 5 := fun z => h5 (z ▸ hd)
            have : p ≠ 7 := fun z => h7 (z ▸ hd)
            have : p ≠ 11 := fun z => h11 (z ▸ hd)
            simp only [List.mem_cons, List.not_mem_nil, or_false]
            omega
          · have := lec (b := 0) pp hd ⟨385, by decide⟩
            rcases this with rfl | rfl | rfl | rfl | rfl <;> omega
  · by_cases h3 : 3 ∣ n.natAbs
    · have h2 : ¬ 2 ∣ n.natAbs := fun z => h23 ⟨z, h3⟩
      refine fr_core hp hn (k := 2) (S := 3) (r := 2) ckF (by simp only [List.mem_cons, List.not_mem_nil, or_false]; rintro l (rfl | rfl) <;> assumption) q30 (fun p pp hd => ?_) h3 (fun p pp hd => ?_) (by decide) (by decide)
      · have := pr_small pp
        have : p ≠ 2 := fun z => h2 (z ▸ hd)
        simp only [List.mem_cons, List.not_mem_nil, or_false]
        omega
      · have := Nat.le_of_dvd (by decide) hd
        omega
    · by_cases h25 : 2 ∣ n.natAbs
      · refine fr_core hp hn (k := 2) (S := 2) (r := 2) ckE (by simp only [List.mem_cons, List.not_mem_nil, or_false]; rintro l (rfl | rfl) <;> assumption) q30 (fun p pp hd => ?_) h25 (fun p pp hd => ?_) (by decide) (by decide)
        · have := pr_small pp
          have : p ≠ 3 := fun z => h3 (z ▸ hd)
          simp only [List.mem_cons, List.not_mem_nil, or_false]
          omega
        · have := Nat.le_of_dvd (by decide) hd
          omega
      · by_cases h5 : 5 ∣ n.natAbs
        · refine fr_core hp hn (k := 2) (S := 5) (r := 2) ckE (by simp only [List.mem_cons, List.not_mem_nil, or_false]; rintro l (rfl | rfl) <;> assumption) q30 (fun p pp hd => ?_) h5 (fun p pp hd => ?_) (by decide) (by decide)
          · have := pr_small pp
            have : p ≠ 3 := fun z => h3 (z ▸ hd)
            simp only [List.mem_cons, List.not_mem_nil, or_false]
            omega
          · have := Nat.le_of_dvd (by decide) hd
            omega
        · refine fr_core hp hn (k := 2) (S := 1) (r := 3) ckG (fun l hl => by cases hl) q30 (fun p pp hd => ?_) (Nat.one_dvd _) (fun p pp hd => ?_) (by decide) (by decide)
          · have := pr_small pp
            have : p ≠ 2 := fun z => h25 (z ▸ hd)
            have : p ≠ 3 := fun z => h3 (z ▸ hd)
            have : p ≠ 5 := fun z => h5 (z ▸ hd)
            omega
          · have := Nat.le_of_dvd (by decide) hd
            omega
/-- by a prime alone -/
theorem fr_pr {f : Fm} (hp : Prim f) {p : Nat} (pp : Pr p) : fr7 f (p : Nat) := by
  have go : ∀ {u : Nat × Nat}, frB u = true → ¬ (p : Int) ∣ evN f u → fr7 f (p : Nat) := by
    intro u hu hd
    refine fr_of hu ?_
    unfold Int.gcd
    rw [Int.natAbs_natCast, Nat.gcd_comm]
    exact pr_cop pp (fun z => hd (Int.ofNat_dvd_left.2 z))
  obtain ⟨a, b, c⟩ := f
  by_cases h1 : (p : Int) ∣ evN (a, b, c) (63, 0)
  · by_cases h2 : (p : Int) ∣ evN (a, b, c) (64, 1)
    · refine go (u := (65, 1)) rfl (fun h3 => ?_)
      have e1 : evN (a, b, c) (63, 0) = a := by
        show a * (63 - 64) * (63 - 64) + b * (63 - 64) * 0 + c * 0 * 0 = a
        grind
      have e2 : evN (a, b, c) (64, 1) = c := by
        show a * (64 - 64) * (64 - 64) + b * (64 - 64) * 1 + c * 1 * 1 = c
        grind
      have e3 : evN (a, b, c) (65, 1) = a + b + c := by
        show a * (65 - 64) * (65 - 64) + b * (65 - 64) * 1 + c * 1 * 1 = a + b + c
        grind
      rw [e1] at h1
      rw [e2] at h2
      rw [e3] at h3
      obtain ⟨x, y, z, e⟩ := hp
      have kb : (p : Int) ∣ b := by
        have := Int.dvd_sub h3 (Int.dvd_add h1 h2)
        rwa [show a + b + c - (a + c) = b by omega] at this
      have : (p : Int) ∣ 1 := by
        rw [← e]
        exact Int.dvd_add (Int.dvd_add (Int.dvd_mul_of_dvd_right h1) (Int.dvd_mul_of_dvd_right kb)) (Int.dvd_mul_of_dvd_right h2)
      have := Int.le_of_dvd (by decide) this
      have := pp.1
      omega
    · exact go (u := (64, 1)) rfl h2
  · exact go (u := (63, 0)) rfl h1
