/-! sets of roots -/
theorem foL_mem {step q : Nat} (hs : 0 < step) : ∀ (f x0 x : Nat), q ≤ x0 + f * step → (x ∈ foL step q f x0 ↔ x0 ≤ x ∧ x < q ∧ (x - x0) % step = 0)
  | 0, x0, x, h => by
    constructor
    · intro z
      cases z
    · rintro ⟨a, b, _⟩
      rw [Nat.zero_mul] at h
      omega
  | f + 1, x0, x, h => by
    show x ∈ (if x0 < q then x0 :: foL step q f (x0 + step) else []) ↔ _
    by_cases g : x0 < q
    · rw [if_pos g, List.mem_cons, foL_mem hs f (x0 + step) x (by rw [Nat.add_mul] at h; omega)]
      constructor
      · rintro (rfl | ⟨a, b, c⟩)
        · exact ⟨Nat.le_refl _, g, by rw [Nat.sub_self, Nat.zero_mod]⟩
        · refine ⟨by omega, b, ?_⟩
          have : x - x0 = (x - (x0 + step)) + step := by omega
          rw [this, Nat.add_mod_right]
          exact c
      · rintro ⟨a, b, c⟩
        by_cases e : x = x0
        · exact Or.inl e
        · right
          have hd := Nat.dvd_of_mod_eq_zero c
          have := Nat.le_of_dvd (by omega) hd
          refine ⟨by omega, b, ?_⟩
          have e2 : x - x0 = (x - (x0 + step)) + step := by omega
          rw [e2, Nat.add_mod_right] at c
          exact c
    · rw [if_neg g]
      constructor
      · intro z
        cases z
      · rintro ⟨a, b, _⟩
        omega
theorem foL_ge {step q : Nat} : ∀ (f x0 x : Nat), x ∈ foL step q f x0 → x0 ≤ x
  | 0, x0, x, h => by cases h
  | f + 1, x0, x, h => by
    have h' : x ∈ (if x0 < q then x0 :: foL step q f (x0 + step) else []) := h
    by_cases g : x0 < q
    · rw [if_pos g, List.mem_cons] at h'
      rcases h' with rfl | z
      · exact Nat.le_refl _
      · have := foL_ge f (x0 + step) x z
        omega
    · rw [if_neg g] at h'
      cases h'
theorem foL_nodup {step q : Nat} (hs : 0 < step) : ∀ (f x0 : Nat), (foL step q f x0).Nodup
  | 0, x0 => List.nodup_nil
  | f + 1, x0 => by
    show (if x0 < q then x0 :: foL step q f (x0 + step) else []).Nodup
    by_cases g : x0 < q
    · rw [if_pos g, List.nodup_cons]
      refine ⟨fun z => ?_, foL_nodup hs f _⟩
      have := foL_ge _ _ _ z
      omega
    · rw [if_neg g]
      exact List.nodup_nil
theorem foL_len {step q : Nat} : ∀ (f x0 : Nat), (foL step q f x0).length = 0 ∨ x0 + ((foL step q f x0).length - 1) * step < q
  | 0, x0 => Or.inl rfl
  | f + 1, x0 => by
    have e : foL step q (f + 1) x0 = if x0 < q then x0 :: foL step q f (x0 + step) else [] := rfl
    rw [e]
    by_cases g : x0 < q
    · rw [if_pos g]
      right
      rw [List.length_cons, Nat.add_sub_cancel]
      rcases foL_len f (x0 + step) with z | z
      · rw [z]
        omega
      · generalize (foL step q f (x0 + step)).length = l at z
        cases l with
        | zero => omega
        | succ l =>
          rw [Nat.add_sub_cancel] at z
          rw [Nat.add_mul]
          omega
    · rw [if_neg g]
      exact Or.inl rfl
def RtQ (q : Nat) (P : Nat → Prop) (ls : List Nat) : Prop := ls.Nodup ∧ ∀ x, x ∈ ls ↔ x < q ∧ P x
theorem RtQ.congr {q : Nat} {P P' : Nat → Prop} {ls : List Nat} (a : RtQ q P ls) (h : ∀ x, x < q → (P x ↔ P' x)) : RtQ q P' ls := by
  refine ⟨a.1, fun x => ?_⟩
  rw [a.2 x]
  constructor
  · rintro ⟨b, c⟩
    exact ⟨b, (h x b).1 c⟩
  · rintro ⟨b, c⟩
    exact ⟨b, (h x b).2 c⟩
theorem RtQ.app {q : Nat} {P P' : Nat → Prop} {l l' : List Nat} (a : RtQ q P l) (b : RtQ q P' l') (h : ∀ x, P x → ¬ P' x) : RtQ q (fun x => P x ∨ P' x) (l ++ l') := by
  refine ⟨?_, fun x => ?_⟩
  · rw [List.nodup_append]
    refine ⟨a.1, b.1, fun x hx y hy e => ?_⟩
    subst e
    exact h x ((a.2 x).1 hx).2 ((b.2 x).1 hy).2
  · rw [List.mem_append, a.2 x, b.2 x]
    constructor
    · rintro (⟨c, d⟩ | ⟨c, d⟩)
      · exact ⟨c, Or.inl d⟩
      · exact ⟨c, Or.inr d⟩
    · rintro ⟨c, d | d⟩
      · exact Or.inl ⟨c, d⟩
      · exact Or.inr ⟨c, d⟩
theorem RtQ.nil {q : Nat} {P : Nat → Prop} (h : ∀ x, x < q → ¬ P x) : RtQ q P [] := ⟨List.nodup_nil, fun x => ⟨fun z => absurd z List.not_mem_nil, fun z => absurd z.2 (h x z.1)⟩⟩
theorem fo_scale {s w r q t f : Nat} (hs : 0 < s) (hw : 0 < w) (hr : r < w) (hq : q = s * w * t) (hf : q ≤ f * (s * w)) : RtQ q (fun x => ∃ y, x = s * y ∧ y % w = r) (foL (s * w) q f (s * r % (s * w))) ∧ (foL (s * w) q f (s * r % (s * w))).length ≤ t := by
  have hsw : 0 < s * w := Nat.mul_pos hs hw
  have hlt : s * r < s * w := Nat.mul_lt_mul_of_pos_left hr hs
  rw [Nat.mod_eq_of_lt hlt]
  refine ⟨⟨foL_nodup hsw _ _, fun x => ?_⟩, ?_⟩
  · rw [foL_mem hsw f (s * r) x (by omega)]
    constructor
    · rintro ⟨a, b, c⟩
      obtain ⟨k, hk⟩ := Nat.dvd_of_mod_eq_zero c
      refine ⟨b, r + w * k, ?_, ?_⟩
      · rw [Nat.mul_add, ← Nat.mul_assoc]
        omega
      · rw [Nat.add_mul_mod_self_left, Nat.mod_eq_of_lt hr]
    · rintro ⟨a, y, rfl, e⟩
      have h1 := Nat.mod_add_div y w
      rw [e] at h1
      rw [← h1, Nat.mul_add, ← Nat.mul_assoc] at a ⊢
      refine ⟨by omega, a, ?_⟩
      rw [Nat.add_sub_cancel_left, Nat.mul_mod_right]
  · rcases foL_len (step := s * w) (q := q) f (s * r) with z | z
    · omega
    · rcases Nat.lt_or_ge t (foL (s * w) q f (s * r)).length with g | g
      · exfalso
        have h1 : t * (s * w) ≤ ((foL (s * w) q f (s * r)).length - 1) * (s * w) := Nat.mul_le_mul_right _ (by omega)
        rw [Nat.mul_comm t] at h1
        omega
      · exact g
theorem pr_pull {p : Nat} (hp : Pr p) {A B : Int} (hA : ¬ (p : Int) ∣ A) : ∀ k : Nat, ((p ^ k : Nat) : Int) ∣ A * B → ((p ^ k : Nat) : Int) ∣ B
  | 0, _ => ⟨B, by rw [Nat.pow_zero]; exact (Int.one_mul B).symm⟩
  | k + 1, h => by
    have hp2 := hp.1
    have e : ((p ^ (k + 1) : Nat) : Int) = ((p ^ k : Nat) : Int) * p := by rw [Nat.pow_succ, Int.natCast_mul]
    rw [e] at h ⊢
    obtain ⟨c, hc⟩ := pr_pull hp hA k (Int.dvd_trans ⟨p, rfl⟩ h)
    obtain ⟨z, hz⟩ := h
    have h0 : ((p ^ k : Nat) : Int) ≠ 0 := by
      have : 0 < p ^ k := Nat.pow_pos (by omega)
      omega
    generalize ((p ^ k : Nat) : Int) = K at *
    rw [hc] at hz ⊢
    have h1 : A * c = p * z := by
      refine Int.eq_of_mul_eq_mul_left h0 ?_
      have a1 := Int.mul_assoc K p z
      have a2 : K * (A * c) = A * (K * c) := by grind
      rw [a2, hz, a1]
    rcases pr_mulI hp ⟨z, h1⟩ with g | g
    · exact absurd g hA
    · obtain ⟨v, hv⟩ := g
      exact ⟨v, by rw [hv, Int.mul_assoc]⟩
theorem sq_pow_dvd {p : Nat} (hp : Pr p) : ∀ (j x : Nat), p ^ (2 * j) ∣ x * x → p ^ j ∣ x
  | 0, x, _ => by rw [Nat.pow_zero]; exact Nat.one_dvd x
  | j + 1, x, h => by
    have hp2 := hp.1
    have e : p ^ (2 * (j + 1)) = p * p * p ^ (2 * j) := by
      rw [show 2 * (j + 1) = 2 * j + 1 + 1 by omega, Nat.pow_succ, Nat.pow_succ]
      grind
    rw [e] at h
    have h1 : p ∣ x := by
      have : p ∣ x * x := Nat.dvd_trans ⟨p * p ^ (2 * j), by rw [Nat.mul_assoc]⟩ h
      rcases pr_mul hp this with z | z <;> exact z
    obtain ⟨y, rfl⟩ := h1
    have h2 : p * p * p ^ (2 * j) ∣ p * p * (y * y) := by
      have e2 : p * y * (p * y) = p * p * (y * y) := by grind
      rwa [e2] at h
    have h3 := Nat.dvd_of_mul_dvd_mul_left (Nat.mul_pos (by omega) (by omega)) h2
    have h4 := sq_pow_dvd hp j y h3
    rw [Nat.pow_succ, Nat.mul_comm]
    exact Nat.mul_dvd_mul (Nat.dvd_refl _) h4
theorem rts_scale {p : Nat} (hp : Pr p) {j m : Nat} {d u : Int} (hd : ((p ^ (2 * j + m) : Nat) : Int) ∣ d - ((p ^ (2 * j) : Nat) : Int) * u) (x : Nat) : (((p ^ (2 * j + m) : Nat) : Int) ∣ (x : Int) * x - d ↔ ∃ y : Nat, x = p ^ j * y ∧ ((p ^ m : Nat) : Int) ∣ (y : Int) * y - u) := by
  have hp2 := hp.1
  have e1 : ((p ^ (2 * j + m) : Nat) : Int) = ((p ^ (2 * j) : Nat) : Int) * ((p ^ m : Nat) : Int) := by rw [Nat.pow_add, Int.natCast_mul]
  have e2 : ((p ^ (2 * j) : Nat) : Int) = ((p ^ j : Nat) : Int) * ((p ^ j : Nat) : Int) := by rw [← Int.natCast_mul, ← Nat.pow_add]; congr 2; omega
  have h0 : ((p ^ (2 * j) : Nat) : Int) ≠ 0 := by
    have : 0 < p ^ (2 * j) := Nat.pow_pos (by omega)
    omega
  have key : ∀ y : Nat, x = p ^ j * y → (((p ^ (2 * j + m) : Nat) : Int) ∣ (x : Int) * x - d ↔ ((p ^ m : Nat) : Int) ∣ (y : Int) * y - u) := by
    intro y hx
    have e3 : (x : Int) * x = ((p ^ (2 * j) : Nat) : Int) * ((y : Int) * y) := by
      rw [hx, e2, Int.natCast_mul]
      grind
    obtain ⟨z, hz⟩ := hd
    rw [e1] at hz ⊢
    rw [e3]
    generalize ((p ^ (2 * j) : Nat) : Int) = K at *
    generalize ((p ^ m : Nat) : Int) = M at *
    constructor
    · rintro ⟨v, hv⟩
      refine ⟨v + z, ?_⟩
      refine Int.eq_of_mul_eq_mul_left h0 ?_
      rw [Int.mul_sub, Int.mul_add, Int.mul_add]
      have a1 := Int.mul_assoc K M v
      have a2 := Int.mul_assoc K M z
      omega
    · rintro ⟨v, hv⟩
      refine ⟨v - z, ?_⟩
      rw [Int.mul_sub, ← hz]
      have a1 := Int.mul_assoc K M v
      have a2 : K * ((y : Int) * y - u) = K * (M * v) := by rw [hv]
      rw [Int.mul_sub] at a2
      omega
  constructor
  · intro h
    have h1 : p ^ j ∣ x := by
      refine sq_pow_dvd hp j x ?_
      refine Int.natCast_dvd_natCast.1 ?_
      have b1 : ((p ^ (2 * j) : Nat) : Int) ∣ (x : Int) * x - d := Int.dvd_trans ⟨_, e1⟩ h
      have b2 : ((p ^ (2 * j) : Nat) : Int) ∣ d - ((p ^ (2 * j) : Nat) : Int) * u := Int.dvd_trans ⟨_, e1⟩ hd
      have b3 := Int.dvd_add (Int.dvd_add b1 b2) (Int.dvd_mul_right ((p ^ (2 * j) : Nat) : Int) u)
      have b4 : (x : Int) * x - d + (d - ((p ^ (2 * j) : Nat) : Int) * u) + ((p ^ (2 * j) : Nat) : Int) * u = ((x * x : Nat) : Int) := by
        rw [Int.natCast_mul]
        omega
      rwa [b4] at b3
    obtain ⟨y, hy⟩ := h1
    exact ⟨y, hy, (key y hy).1 h⟩
  · rintro ⟨y, hy, h⟩
    exact (key y hy).2 h
theorem mod_same {a b w : Nat} : (w : Int) ∣ (a : Int) - b ↔ a % w = b % w := by
  constructor
  · intro h
    have := (Int.emod_eq_emod_iff_emod_sub_eq_zero (m := (a : Int)) (k := b) (n := (w : Int))).2 (Int.emod_eq_zero_of_dvd h)
    omega
  · intro h
    refine Int.dvd_of_emod_eq_zero ((Int.emod_eq_emod_iff_emod_sub_eq_zero).1 ?_)
    omega
theorem mod_neg {a b w : Nat} (hw : 0 < w) (hb : b % w ≠ 0) : (w : Int) ∣ (a : Int) + b ↔ a % w = w - b % w := by
  have h1 := Nat.mod_lt a hw
  have h2 := Nat.mod_lt b hw
  have h3 := Nat.add_mod a b w
  have h4 : ((w : Int) ∣ (a : Int) + b) ↔ (a + b) % w = 0 := by
    rw [← Int.natCast_add, Int.natCast_dvd_natCast]
    exact Nat.dvd_iff_mod_eq_zero
  rw [h4, h3]
  by_cases g : a % w + b % w < w
  · rw [Nat.mod_eq_of_lt g]
    omega
  · rw [Nat.mod_eq_sub_mod (by omega), Nat.mod_eq_of_lt (by omega)]
    omega
/-- the roots of a unit modulo an odd prime's power -/
theorem rts_odd {p : Nat} (hp : Pr p) (h2 : p % 2 = 1) {m r u : Nat} (hm : 1 ≤ m) (hu : ¬ p ∣ u) (hr : ((p ^ m : Nat) : Int) ∣ (r : Int) * r - u) (y : Nat) : ((p ^ m : Nat) : Int) ∣ (y : Int) * y - u ↔ y % p ^ m = r % p ^ m ∨ y % p ^ m = p ^ m - r % p ^ m := by
  have hp2 := hp.1
  have hpp : p ∣ p ^ m := by
    have : p ^ 1 ∣ p ^ m := Nat.pow_dvd_pow p hm
    rwa [Nat.pow_one] at this
  have hpr : ¬ (p : Int) ∣ r := by
    intro z
    apply hu
    have h3 : (p : Int) ∣ (r : Int) * r - u := Int.dvd_trans (Int.natCast_dvd_natCast.2 hpp) hr
    have h4 := Int.dvd_sub (Int.dvd_mul_of_dvd_left (c := (r : Int)) z) h3
    have e : (r : Int) * r - ((r : Int) * r - u) = u := by omega
    rw [e] at h4
    exact Int.natCast_dvd_natCast.1 h4
  have hw : 0 < p ^ m := Nat.pow_pos (by omega)
  have hr0 : r % p ^ m ≠ 0 := by
    intro z
    exact hpr (Int.natCast_dvd_natCast.2 (Nat.dvd_trans hpp (Nat.dvd_of_mod_eq_zero z)))
  rw [← mod_same, ← mod_neg hw hr0]
  have e : (y : Int) * y - u = ((y : Int) - r) * (y + r) + ((r : Int) * r - u) := by grind
  constructor
  · intro h
    have h3 : ((p ^ m : Nat) : Int) ∣ ((y : Int) - r) * (y + r) := by
      have := Int.dvd_sub h hr
      have e2 : (y : Int) * y - u - ((r : Int) * r - u) = ((y : Int) - r) * (y + r) := by omega
      rwa [e2] at this
    by_cases g : (p : Int) ∣ (y : Int) - r
    · left
      have g2 : ¬ (p : Int) ∣ (y : Int) + r := by
        intro z
        have := Int.dvd_sub z g
        have e3 : (y : Int) + r - ((y : Int) - r) = 2 * r := by omega
        rw [e3] at this
        rcases pr_mulI hp this with k | k
        · have := Int.le_of_dvd (by decide) k
          omega
        · exact hpr k
      rw [Int.mul_comm] at h3
      exact pr_pull hp g2 m h3
    · right
      exact pr_pull hp g m h3
  · rintro (h | h)
    · rw [e]
      exact Int.dvd_add (Int.dvd_mul_of_dvd_left h) hr
    · rw [e]
      exact Int.dvd_add (Int.dvd_mul_of_dvd_right h) hr
theorem pr_two : Pr 2 := by
  refine ⟨by decide, fun k hk => ?_⟩
  have := Nat.le_of_dvd (by decide) hk
  rcases Nat.lt_or_ge 0 k with z | z
  · omega
  · have : k = 0 := by omega
    subst this
    exact absurd hk (by decide)
/-- the roots of a unit modulo eight or more -/
theorem rts_two {m r u : Nat} (hm : 3 ≤ m) (hr2 : r % 2 = 1) (hr : ((2 ^ m : Nat) : Int) ∣ (r : Int) * r - u) (y : Nat) : ((2 ^ m : Nat) : Int) ∣ (y : Int) * y - u ↔ y % 2 ^ (m - 1) = r % 2 ^ (m - 1) ∨ y % 2 ^ (m - 1) = 2 ^ (m - 1) - r % 2 ^ (m - 1) := by
  obtain ⟨k, rfl⟩ : ∃ k, m = k + 2 := ⟨m - 2, by omega⟩
  have e0 : ((2 ^ (k + 2) : Nat) : Int) = 4 * ((2 ^ k : Nat) : Int) := by
    rw [Nat.pow_add, Int.natCast_mul, Int.mul_comm]
    rfl
  have e1 : k + 2 - 1 = k + 1 := by omega
  have e2 : ((2 ^ (k + 1) : Nat) : Int) = 2 * ((2 ^ k : Nat) : Int) := by
    rw [Nat.pow_succ, Int.natCast_mul, Int.mul_comm]
    rfl
  have hk1 : 2 ∣ 2 ^ (k + 1) := ⟨2 ^ k, by rw [Nat.pow_succ, Nat.mul_comm]⟩
  have hw : 0 < 2 ^ (k + 1) := Nat.pow_pos (by omega)
  have hr0 : r % 2 ^ (k + 1) ≠ 0 := by
    intro z
    have := Nat.dvd_trans hk1 (Nat.dvd_of_mod_eq_zero z)
    omega
  rw [e1, ← mod_same, ← mod_neg hw hr0, e2]
  rw [e0] at hr ⊢
  have hK : ((2 ^ k : Nat) : Int) % 2 = 0 := by
    obtain ⟨l, rfl⟩ : ∃ l, k = l + 1 := ⟨k - 1, by omega⟩
    rw [Nat.pow_succ]
    omega
  have pc : ∀ (A B : Int), A % 2 = 1 → ((2 ^ k : Nat) : Int) ∣ A * B → ((2 ^ k : Nat) : Int) ∣ B := fun A B hA hd => pr_pull pr_two (by omega) k hd
  generalize ((2 ^ k : Nat) : Int) = K at *
  have e : (y : Int) * y - u = ((y : Int) - r) * (y + r) + ((r : Int) * r - u) := by grind
  constructor
  · intro h
    have hy2 : y % 2 = 1 := by
      have h5 : (2 : Int) ∣ (y : Int) * y - u := Int.dvd_trans ⟨2 * K, by omega⟩ h
      have h6 : (2 : Int) ∣ (r : Int) * r - u := Int.dvd_trans ⟨2 * K, by omega⟩ hr
      rcases Nat.mod_two_eq_zero_or_one y with z | z
      · exfalso
        obtain ⟨a, ha⟩ : ∃ a, y = 2 * a := ⟨y / 2, by omega⟩
        obtain ⟨b, hb⟩ : ∃ b, r = 2 * b + 1 := ⟨r / 2, by omega⟩
        have a1 : (y : Int) * y = 2 * (2 * ((a : Int) * a)) := by
          rw [ha, Int.natCast_mul]
          grind
        have a2 : (r : Int) * r = 2 * (2 * ((b : Int) * b) + 2 * b) + 1 := by
          rw [hb, Int.natCast_add, Int.natCast_mul]
          grind
        omega
      · exact z
    have h3 : 4 * K ∣ ((y : Int) - r) * (y + r) := by
      have := Int.dvd_sub h hr
      have e2 : (y : Int) * y - u - ((r : Int) * r - u) = ((y : Int) - r) * (y + r) := by omega
      rwa [e2] at this
    obtain ⟨A, hA⟩ : ∃ A : Int, (y : Int) - r = 2 * A := ⟨((y : Int) - r) / 2, by omega⟩
    obtain ⟨B, hB⟩ : ∃ B : Int, (y : Int) + r = 2 * B := ⟨((y : Int) + r) / 2, by omega⟩
    rw [hA, hB] at h3 ⊢
    have h4 : K ∣ A * B := by
      obtain ⟨z, hz⟩ := h3
      refine ⟨z, ?_⟩
      have a1 : 2 * A * (2 * B) = 4 * (A * B) := by grind
      have a2 := Int.mul_assoc 4 K z
      omega
    by_cases g : A % 2 = 1
    · right
      exact Int.mul_dvd_mul_left 2 (pc A B g h4)
    · left
      rw [Int.mul_comm] at h4
      exact Int.mul_dvd_mul_left 2 (pc B A (by omega) h4)
  · intro h
    rw [e]
    refine Int.dvd_add ?_ hr
    have tw : ∀ a b : Int, 2 * K ∣ a → a - b = 2 * r ∨ b - a = 2 * r → 4 * K ∣ a * b := by
      rintro a b ⟨z, hz⟩ hab
      obtain ⟨k2, hk2⟩ : ∃ k2, K = 2 * k2 := ⟨K / 2, by omega⟩
      obtain ⟨b2, hb2⟩ : ∃ b2, b = 2 * b2 := by
        have := Int.mul_assoc 2 K z
        exact ⟨b / 2, by omega⟩
      refine ⟨z * b2, ?_⟩
      rw [hz, hb2]
      grind
    rcases h with h | h
    · exact tw ((y : Int) - r) (y + r) h (Or.inr (by omega))
    · rw [Int.mul_comm ((y : Int) - r)]
      exact tw ((y : Int) + r) (y - r) h (Or.inl (by omega))
