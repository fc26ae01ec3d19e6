/-! residues modulo odd primes: Gauss, Euler, and the law of reciprocity -/
def foN {α : Type} (op : α → α → α) (e : α) (f : Nat → α) : Nat → α
  | 0 => e
  | n + 1 => op (foN op e f n) (f n)
theorem foN_congr {α : Type} {op : α → α → α} {e : α} {f g : Nat → α} : ∀ n, (∀ i, i < n → f i = g i) → foN op e f n = foN op e g n
  | 0, _ => rfl
  | n + 1, h => by
    show op (foN op e f n) (f n) = op (foN op e g n) (g n)
    rw [foN_congr n (fun i hi => h i (by omega)), h n (by omega)]
theorem foN_upd {α : Type} {op : α → α → α} {e : α} (hc : ∀ x y, op x y = op y x) (ha : ∀ x y z, op (op x y) z = op x (op y z)) {f g : Nat → α} {t : Nat} : ∀ n, t < n → (∀ i, i < n → i ≠ t → f i = g i) → op (foN op e f n) (g t) = op (foN op e g n) (f t)
  | 0, h, _ => absurd h (by omega)
  | n + 1, ht, h => by
    show op (op (foN op e f n) (f n)) (g t) = op (op (foN op e g n) (g n)) (f t)
    by_cases g1 : t = n
    · subst g1
      rw [foN_congr t (fun i hi => h i (by omega) (by omega)), ha, ha, hc (f t)]
    · have := foN_upd (e := e) hc ha n (by omega) (fun i hi hne => h i (by omega) hne)
      rw [h n (by omega) (by omega), ha, hc (g n), ← ha, this, ha, hc (f t), ← ha]
/-- what is moved about has the same sum and the same product -/
theorem foN_perm {α : Type} {op : α → α → α} {e : α} (hc : ∀ x y, op x y = op y x) (ha : ∀ x y z, op (op x y) z = op x (op y z)) (f : Nat → α) : ∀ (n : Nat) (σ : Nat → Nat), (∀ i, i < n → σ i < n) → (∀ i j, i < n → j < n → σ i = σ j → i = j) → foN op e (fun i => f (σ i)) n = foN op e f n
  | 0, _, _, _ => rfl
  | n + 1, σ, h1, h2 => by
    show op (foN op e (fun i => f (σ i)) n) (f (σ n)) = op (foN op e f n) (f n)
    by_cases g : σ n = n
    · rw [g, foN_perm hc ha f n σ (fun i hi => ?_) (fun i j hi hj => h2 i j (by omega) (by omega))]
      have := h1 i (by omega)
      have : σ i ≠ n := fun he => by
        have := h2 i n (by omega) (by omega) (by rw [he, g])
        omega
      omega
    · have hn := h1 n (by omega)
      -- something comes to n
      have hex : ∃ t, t < n ∧ σ t = n := by
        by_cases hx : ∃ t, t < n ∧ σ t = n
        · exact hx
        · exfalso
          obtain ⟨i, j, i1, i2, i3⟩ := pigeon n σ (fun i hi => by
            have := h1 i (by omega)
            by_cases hin : i = n
            · subst hin
              omega
            · have : σ i ≠ n := fun he => hx ⟨i, by omega, he⟩
              omega)
          have := h2 i j (by omega) (by omega) i3
          omega
      obtain ⟨t, t1, t2⟩ := hex
      have ih := foN_perm (e := e) hc ha f n (fun i => if i = t then σ n else σ i) (by
        intro i hi
        try simp only
        by_cases e1 : i = t
        · rw [if_pos e1]
          omega
        · rw [if_neg e1]
          have := h1 i (by omega)
          have : σ i ≠ n := fun he => e1 (h2 i t (by omega) (by omega) (by rw [he, t2]))
          omega) (by
        intro i j hi hj he
        try simp only at he
        by_cases e1 : i = t <;> by_cases e2 : j = t
        · omega
        · rw [if_pos e1, if_neg e2] at he
          have := h2 n j (by omega) (by omega) he
          omega
        · rw [if_neg e1, if_pos e2] at he
          have := h2 i n (by omega) (by omega) he
          omega
        · rw [if_neg e1, if_neg e2] at he
          exact h2 i j (by omega) (by omega) he)
      have hu := foN_upd (e := e) (f := fun i => f (σ i)) (g := fun i => f (if i = t then σ n else σ i)) (t := t) hc ha n t1 (by
        intro i hi hne
        try simp only
        rw [if_neg hne])
      try simp only at hu
      rw [if_pos trivial, t2] at hu
      rw [hu, ih]
abbrev suN (f : Nat → Nat) (n : Nat) : Nat := foN (· + ·) 0 f n
abbrev prZ (f : Nat → Int) (n : Nat) : Int := foN (· * ·) 1 f n
theorem suN_add (f g : Nat → Nat) : ∀ n, suN (fun i => f i + g i) n = suN f n + suN g n
  | 0 => rfl
  | n + 1 => by
    show suN (fun i => f i + g i) n + (f n + g n) = suN f n + f n + (suN g n + g n)
    rw [suN_add f g n]
    omega
theorem suN_mul (c : Nat) (f : Nat → Nat) : ∀ n, suN (fun i => c * f i) n = c * suN f n
  | 0 => rfl
  | n + 1 => by
    show suN (fun i => c * f i) n + c * f n = c * (suN f n + f n)
    rw [suN_mul c f n, Nat.mul_add]
theorem suN_swap (F : Nat → Nat → Nat) (m : Nat) : ∀ n, suN (fun k => suN (fun j => F k j) m) n = suN (fun j => suN (fun k => F k j) n) m
  | 0 => by
    show 0 = suN (fun _ => 0) m
    induction m with
    | zero => rfl
    | succ m ih =>
      show 0 = suN (fun _ => 0) m + 0
      rw [← ih]
  | n + 1 => by
    show suN (fun k => suN (fun j => F k j) m) n + suN (fun j => F n j) m = suN (fun j => suN (fun k => F k j) n + F n j) m
    rw [suN_swap F m n, suN_add]
theorem suN_const (c : Nat) : ∀ n, suN (fun _ => c) n = n * c
  | 0 => (Nat.zero_mul c).symm
  | n + 1 => by
    show suN (fun _ => c) n + c = (n + 1) * c
    rw [suN_const c n, Nat.add_mul, Nat.one_mul]
theorem suN_count (x : Nat) : ∀ H, suN (fun j => if j + 1 ≤ x then 1 else 0) H = min x H
  | 0 => (Nat.min_zero x).symm
  | H + 1 => by
    show suN (fun j => if j + 1 ≤ x then 1 else 0) H + (if H + 1 ≤ x then 1 else 0) = _
    rw [suN_count x H]
    by_cases h : H + 1 ≤ x
    · rw [if_pos h]
      omega
    · rw [if_neg h]
      omega
theorem prZ_mul (f g : Nat → Int) : ∀ n, prZ (fun i => f i * g i) n = prZ f n * prZ g n
  | 0 => rfl
  | n + 1 => by
    show prZ (fun i => f i * g i) n * (f n * g n) = prZ f n * f n * (prZ g n * g n)
    rw [prZ_mul f g n]
    grind
theorem prZ_pow (c : Int) : ∀ n, prZ (fun _ => c) n = c ^ n
  | 0 => (Int.pow_zero c).symm
  | n + 1 => by
    show prZ (fun _ => c) n * c = _
    rw [prZ_pow c n, Int.pow_succ]
theorem prZ_dvd {p : Int} {f g : Nat → Int} : ∀ n, (∀ i, i < n → p ∣ f i - g i) → p ∣ prZ f n - prZ g n
  | 0, _ => by
    show p ∣ (1 : Int) - 1
    exact Int.dvd_zero p
  | n + 1, h => by
    show p ∣ prZ f n * f n - prZ g n * g n
    have h1 := prZ_dvd n (fun i hi => h i (by omega))
    have h2 := h n (by omega)
    have : prZ f n * f n - prZ g n * g n = (prZ f n - prZ g n) * f n + prZ g n * (f n - g n) := by grind
    rw [this]
    exact Int.dvd_add (Int.dvd_mul_of_dvd_left h1) (Int.dvd_mul_of_dvd_right h2)
def sgN (n : Nat) : Int := if n % 2 = 0 then 1 else -1
theorem sgN_add (a b : Nat) : sgN (a + b) = sgN a * sgN b := by
  unfold sgN
  have ha : a % 2 = 0 ∨ a % 2 = 1 := by omega
  have hb : b % 2 = 0 ∨ b % 2 = 1 := by omega
  rcases ha with ha | ha <;> rcases hb with hb | hb <;> simp [ha, hb, Nat.add_mod]
theorem sgN_pm (a : Nat) : sgN a = 1 ∨ sgN a = -1 := by
  unfold sgN
  by_cases h : a % 2 = 0
  · rw [if_pos h]
    exact Or.inl rfl
  · rw [if_neg h]
    exact Or.inr rfl
theorem sgN_congr {a b : Nat} (h : a % 2 = b % 2) : sgN a = sgN b := by
  unfold sgN
  rw [h]
theorem sgN_sq (a : Nat) : sgN a * sgN a = 1 := by
  rcases sgN_pm a with h | h <;> rw [h] <;> decide
/-- the residue of v times k + 1, its size, and how many are above the half -/
def rsN (v p k : Nat) : Nat := v * (k + 1) % p
def szN (v p k : Nat) : Nat := if rsN v p k ≤ p / 2 then rsN v p k else p - rsN v p k
def muN (v p : Nat) : Nat := suN (fun k => if rsN v p k ≤ p / 2 then 0 else 1) (p / 2)
theorem rsN_in {v p k : Nat} (hp : Pr p) (h2 : p % 2 = 1) (hv : ¬ p ∣ v) (hk : k < p / 2) : 0 < rsN v p k ∧ rsN v p k < p := by
  have hp0 : 0 < p := by have := hp.1; omega
  refine ⟨?_, Nat.mod_lt _ hp0⟩
  rcases Nat.eq_zero_or_pos (rsN v p k) with g | g
  · exfalso
    rcases pr_mul hp (Nat.dvd_of_mod_eq_zero g) with h | h
    · exact hv h
    · have := Nat.le_of_dvd (by omega) h
      omega
  · exact g
theorem szN_in {v p k : Nat} (hp : Pr p) (h2 : p % 2 = 1) (hv : ¬ p ∣ v) (hk : k < p / 2) : 0 < szN v p k ∧ szN v p k ≤ p / 2 := by
  have := rsN_in hp h2 hv hk
  unfold szN
  by_cases h : rsN v p k ≤ p / 2
  · rw [if_pos h]
    omega
  · rw [if_neg h]
    omega
theorem szN_inj {v p k l : Nat} (hp : Pr p) (h2 : p % 2 = 1) (hv : ¬ p ∣ v) (hk : k < p / 2) (hl : l < p / 2) (he : szN v p k = szN v p l) : k = l := by
  have r1 := rsN_in hp h2 hv hk
  have r2 := rsN_in hp h2 hv hl
  have m1 := Nat.div_add_mod (v * (k + 1)) p
  have m2 := Nat.div_add_mod (v * (l + 1)) p
  have hor : rsN v p k = rsN v p l ∨ rsN v p k + rsN v p l = p := by
    unfold szN at he
    by_cases h : rsN v p k ≤ p / 2 <;> by_cases h' : rsN v p l ≤ p / 2
    · rw [if_pos h, if_pos h'] at he
      exact Or.inl he
    · rw [if_pos h, if_neg h'] at he
      omega
    · rw [if_neg h, if_pos h'] at he
      omega
    · rw [if_neg h, if_neg h'] at he
      omega
  unfold rsN at hor r1 r2
  generalize v * (k + 1) % p = a at m1 hor r1
  generalize v * (l + 1) % p = b at m2 hor r2
  rcases hor with h | h
  · have hd : (p : Int) ∣ (v : Int) * ((k : Int) - l) := by
      refine ⟨((v * (k + 1) / p : Nat) : Int) - ((v * (l + 1) / p : Nat) : Int), ?_⟩
      have c1 : (p : Int) * ((v * (k + 1) / p : Nat) : Int) + a = v * (k + 1) := by
        have := congrArg (Nat.cast (R := Int)) m1
        rw [Int.natCast_add, Int.natCast_mul, Int.natCast_mul] at this
        exact this
      have c2 : (p : Int) * ((v * (l + 1) / p : Nat) : Int) + b = v * (l + 1) := by
        have := congrArg (Nat.cast (R := Int)) m2
        rw [Int.natCast_add, Int.natCast_mul, Int.natCast_mul] at this
        exact this
      rw [h] at c1
      grind
    rcases pr_mulI hp hd with g | g
    · exact absurd (Int.natCast_dvd_natCast.1 g) hv
    · obtain ⟨q, hq⟩ := g
      have hq0 : q = 0 := by
        have l1 : (p : Int) * q < p * 1 := by omega
        have l2 : (p : Int) * -1 < p * q := by omega
        have := lt_of_mul (by omega) l1
        have := lt_of_mul (by omega) l2
        omega
      rw [hq0] at hq
      omega
  · exfalso
    have hd : p ∣ v * (k + 1 + (l + 1)) := by
      refine ⟨v * (k + 1) / p + v * (l + 1) / p + 1, ?_⟩
      rw [Nat.mul_add v (k + 1) (l + 1), Nat.mul_add p, Nat.mul_add p]
      generalize p * (v * (k + 1) / p) = A at m1
      generalize p * (v * (l + 1) / p) = B at m2
      omega
    rcases pr_mul hp hd with g | g
    · exact hv g
    · have := Nat.le_of_dvd (by omega) g
      omega
theorem szN_sum {α : Type} {op : α → α → α} {e : α} (hc : ∀ x y, op x y = op y x) (ha : ∀ x y z, op (op x y) z = op x (op y z)) {v p : Nat} (hp : Pr p) (h2 : p % 2 = 1) (hv : ¬ p ∣ v) (f : Nat → α) : foN op e (fun k => f (szN v p k)) (p / 2) = foN op e (fun k => f (k + 1)) (p / 2) := by
  have := foN_perm (e := e) hc ha (fun k => f (k + 1)) (p / 2) (fun k => szN v p k - 1) (by
    intro i hi
    have := szN_in hp h2 hv hi
    try simp only
    omega) (by
    intro i j hi hj he
    have h1 := szN_in hp h2 hv hi
    have h3 := szN_in hp h2 hv hj
    try simp only at he
    exact szN_inj hp h2 hv hi hj (by omega))
  rw [← this]
  refine foN_congr _ (fun i hi => ?_)
  have h1 := szN_in hp h2 hv hi
  try simp only
  rw [Nat.sub_add_cancel h1.1]
theorem sgN_mu (v p : Nat) : ∀ n, prZ (fun k => if rsN v p k ≤ p / 2 then 1 else -1) n = sgN (suN (fun k => if rsN v p k ≤ p / 2 then 0 else 1) n)
  | 0 => rfl
  | n + 1 => by
    show prZ (fun k => if rsN v p k ≤ p / 2 then 1 else -1) n * (if rsN v p n ≤ p / 2 then 1 else -1) = sgN (suN (fun k => if rsN v p k ≤ p / 2 then 0 else 1) n + (if rsN v p n ≤ p / 2 then 0 else 1))
    rw [sgN_mu v p n, sgN_add]
    by_cases h : rsN v p n ≤ p / 2
    · rw [if_pos h, if_pos h]
      rfl
    · rw [if_neg h, if_neg h]
      rfl
theorem prZ_nd {p : Nat} (hp : Pr p) : ∀ n, n ≤ p / 2 → ¬ (p : Int) ∣ prZ (fun k => ((k + 1 : Nat) : Int)) n
  | 0, _, h => by
    have h1 : (p : Int) ∣ 1 := h
    have := Int.le_of_dvd (by decide) h1
    have := hp.1
    omega
  | n + 1, hn, h => by
    rcases pr_mulI hp h with g | g
    · exact prZ_nd hp n (by omega) g
    · have := Nat.le_of_dvd (by omega) (Int.natCast_dvd_natCast.1 g)
      omega
/-- Gauss: the power is the sign -/
theorem gauss_pow {v p : Nat} (hp : Pr p) (h2 : p % 2 = 1) (hv : ¬ p ∣ v) : (p : Int) ∣ (v : Int) ^ (p / 2) - sgN (muN v p) := by
  have h1 : (p : Int) ∣ prZ (fun k => (v : Int) * ((k + 1 : Nat) : Int)) (p / 2) - prZ (fun k => (if rsN v p k ≤ p / 2 then 1 else -1) * ((szN v p k : Nat) : Int)) (p / 2) := by
    refine prZ_dvd _ (fun k hk => ?_)
    have hr := rsN_in hp h2 hv hk
    have m1 := Nat.div_add_mod (v * (k + 1)) p
    have c1 : (p : Int) * ((v * (k + 1) / p : Nat) : Int) + (rsN v p k : Nat) = v * ((k + 1 : Nat) : Int) := by
      have := congrArg (Nat.cast (R := Int)) m1
      rw [Int.natCast_add, Int.natCast_mul, Int.natCast_mul] at this
      exact this
    unfold szN
    try simp only
    rw [← c1]
    by_cases h : rsN v p k ≤ p / 2
    · rw [if_pos h, if_pos h, Int.one_mul]
      exact ⟨((v * (k + 1) / p : Nat) : Int), by omega⟩
    · rw [if_neg h, if_neg h]
      refine ⟨((v * (k + 1) / p : Nat) : Int) + 1, ?_⟩
      rw [Int.natCast_sub (by omega), Int.mul_add]
      omega
  have hsz : prZ (fun k => ((szN v p k : Nat) : Int)) (p / 2) = prZ (fun k => ((k + 1 : Nat) : Int)) (p / 2) := szN_sum (f := fun s => ((s : Nat) : Int)) Int.mul_comm Int.mul_assoc hp h2 hv
  rw [prZ_mul, prZ_mul, prZ_pow, sgN_mu, hsz] at h1
  have h3 : (v : Int) ^ (p / 2) * foN (· * ·) 1 (fun k => ((k + 1 : Nat) : Int)) (p / 2) - sgN (muN v p) * foN (· * ·) 1 (fun k => ((k + 1 : Nat) : Int)) (p / 2) = ((v : Int) ^ (p / 2) - sgN (muN v p)) * foN (· * ·) 1 (fun k => ((k + 1 : Nat) : Int)) (p / 2) := by rw [Int.sub_mul]
  have h4 : (p : Int) ∣ ((v : Int) ^ (p / 2) - sgN (muN v p)) * foN (· * ·) 1 (fun k => ((k + 1 : Nat) : Int)) (p / 2) := by
    rw [← h3]
    exact h1
  rcases pr_mulI hp h4 with g | g
  · exact g
  · exact absurd g (prZ_nd hp _ (Nat.le_refl _))
/-- Eisenstein: the count by whole parts -/
theorem mu_par {v p : Nat} (hp : Pr p) (h2 : p % 2 = 1) (hv : ¬ p ∣ v) : (muN v p + suN (fun k => v * (k + 1) / p) (p / 2)) % 2 = ((v + 1) * suN (fun k => k + 1) (p / 2)) % 2 := by
  have hs : suN (fun k => szN v p k) (p / 2) = suN (fun k => k + 1) (p / 2) := szN_sum (f := fun s => s) Nat.add_comm Nat.add_assoc hp h2 hv
  -- residues and sizes
  have hrs : ∃ t, suN (fun k => rsN v p k) (p / 2) + suN (fun k => szN v p k) (p / 2) = muN v p + 2 * t := by
    have gen : ∀ n, n ≤ p / 2 → ∃ t, suN (fun k => rsN v p k) n + suN (fun k => szN v p k) n = suN (fun k => if rsN v p k ≤ p / 2 then 0 else 1) n + 2 * t := by
      intro n
      induction n with
      | zero => intro _; exact ⟨0, rfl⟩
      | succ n ih =>
        intro hn
        obtain ⟨t, ht⟩ := ih (by omega)
        have hr := rsN_in hp h2 hv (show n < p / 2 by omega)
        show ∃ t, suN (fun k => rsN v p k) n + rsN v p n + (suN (fun k => szN v p k) n + szN v p n) = suN (fun k => if rsN v p k ≤ p / 2 then 0 else 1) n + (if rsN v p n ≤ p / 2 then 0 else 1) + 2 * t
        by_cases h : rsN v p n ≤ p / 2
        · refine ⟨t + rsN v p n, ?_⟩
          have : szN v p n = rsN v p n := by unfold szN; rw [if_pos h]
          rw [if_pos h, this]
          omega
        · refine ⟨t + p / 2, ?_⟩
          have : szN v p n = p - rsN v p n := by unfold szN; rw [if_neg h]
          rw [if_neg h, this]
          omega
    exact gen _ (Nat.le_refl _)
  obtain ⟨t, ht⟩ := hrs
  have hsum : v * suN (fun k => k + 1) (p / 2) = p * suN (fun k => v * (k + 1) / p) (p / 2) + suN (fun k => rsN v p k) (p / 2) := by
    rw [← suN_mul, ← suN_mul, ← suN_add]
    refine foN_congr _ (fun k _ => ?_)
    exact (Nat.div_add_mod _ _).symm
  rw [hs] at ht
  obtain ⟨u, hu⟩ : ∃ u, p = 2 * u + 1 := ⟨p / 2, by omega⟩
  rw [Nat.add_mul, Nat.one_mul, hsum]
  generalize suN (fun k => k + 1) (p / 2) = T at *
  generalize suN (fun k => v * (k + 1) / p) (p / 2) = W at *
  generalize suN (fun k => rsN v p k) (p / 2) = R at *
  generalize muN v p = M at *
  have : p * W = 2 * (u * W) + W := by rw [hu]; grind
  omega
theorem mu_two {p : Nat} (hp : Pr p) (h2 : p % 2 = 1) : sgN (muN 2 p) = if p % 8 = 1 ∨ p % 8 = 7 then 1 else -1 := by
  have hv : ¬ p ∣ 2 := fun h => by
    have := Nat.le_of_dvd (by decide) h
    have := hp.1
    omega
  have h := mu_par hp h2 hv
  have hz : suN (fun k => 2 * (k + 1) / p) (p / 2) = 0 := by
    have : suN (fun k => 2 * (k + 1) / p) (p / 2) = suN (fun _ => 0) (p / 2) := foN_congr _ (fun k hk => Nat.div_eq_of_lt (by omega))
    rw [this, suN_const, Nat.mul_zero]
  have tri : ∀ n, 2 * suN (fun k => k + 1) n = n * (n + 1) := by
    intro n
    induction n with
    | zero => rfl
    | succ n ih =>
      show 2 * (suN (fun k => k + 1) n + (n + 1)) = _
      rw [Nat.mul_add, ih]
      grind
  have ht := tri (p / 2)
  rw [hz] at h
  generalize suN (fun k => k + 1) (p / 2) = T at *
  have hT : muN 2 p % 2 = T % 2 := by omega
  -- p = 8 q + r
  obtain ⟨q, hq⟩ : ∃ q, p = 8 * q + p % 8 := ⟨p / 8, by omega⟩
  have hr : p % 8 = 1 ∨ p % 8 = 3 ∨ p % 8 = 5 ∨ p % 8 = 7 := by omega
  have hpar : (T % 2 = 0 ↔ (p % 8 = 1 ∨ p % 8 = 7)) := by
    rcases hr with e | e | e | e
    · have hh : p / 2 = 4 * q := by omega
      rw [hh] at ht
      have : T = 2 * (q * (4 * q + 1)) := by grind
      omega
    · have hh : p / 2 = 4 * q + 1 := by omega
      rw [hh] at ht
      have : T = 2 * (q * (4 * q + 3)) + 1 := by grind
      omega
    · have hh : p / 2 = 4 * q + 2 := by omega
      rw [hh] at ht
      have : T = 2 * (q * (4 * q + 5) + 1) + 1 := by grind
      omega
    · have hh : p / 2 = 4 * q + 3 := by omega
      rw [hh] at ht
      have : T = 2 * (q * (4 * q + 7) + 3) := by grind
      omega
  unfold sgN
  by_cases g : p % 8 = 1 ∨ p % 8 = 7
  · rw [if_pos g, if_pos (by have := hpar.2 g; omega)]
  · rw [if_neg g, if_neg (by intro hc; exact g (hpar.1 (by omega)))]
theorem mu_odd {v p : Nat} (hp : Pr p) (h2 : p % 2 = 1) (hv : ¬ p ∣ v) (hv2 : v % 2 = 1) : sgN (muN v p) = sgN (suN (fun k => v * (k + 1) / p) (p / 2)) := by
  have h := mu_par hp h2 hv
  obtain ⟨u, hu⟩ : ∃ u, v + 1 = 2 * u := ⟨(v + 1) / 2, by omega⟩
  rw [hu, Nat.mul_assoc, Nat.mul_mod_right] at h
  exact sgN_congr (by omega)
theorem lattice {p q : Nat} (hp : Pr p) (hq : Pr q) (h2 : p % 2 = 1) (h2' : q % 2 = 1) (hne : p ≠ q) : suN (fun k => q * (k + 1) / p) (p / 2) + suN (fun k => p * (k + 1) / q) (q / 2) = p / 2 * (q / 2) := by
  have main : ∀ p q : Nat, Pr p → p % 2 = 1 → q % 2 = 1 → 0 < q → ∀ k, k < p / 2 → q * (k + 1) / p = suN (fun j => if p * (j + 1) ≤ q * (k + 1) then 1 else 0) (q / 2) := by
    intro p q hp h2 h2' hq0 k hk
    have hp0 : 0 < p := by have := hp.1; omega
    have e1 : suN (fun j => if p * (j + 1) ≤ q * (k + 1) then 1 else 0) (q / 2) = suN (fun j => if j + 1 ≤ q * (k + 1) / p then 1 else 0) (q / 2) := by
      refine foN_congr _ (fun j _ => ?_)
      simp only [Nat.le_div_iff_mul_le hp0, Nat.mul_comm]
    rw [e1, suN_count]
    have hle : q * (k + 1) / p ≤ q / 2 := by
      have : q * (k + 1) < (q / 2 + 1) * p := by
        have t1 : q * (k + 1) ≤ q * (p / 2) := Nat.mul_le_mul_left _ (by omega)
        obtain ⟨a, ha⟩ : ∃ a, p = 2 * a + 1 := ⟨p / 2, by omega⟩
        obtain ⟨b, hb⟩ : ∃ b, q = 2 * b + 1 := ⟨q / 2, by omega⟩
        have e2 : p / 2 = a := by omega
        have e3 : q / 2 = b := by omega
        rw [e2] at t1
        rw [e3]
        have t2 : q * a = 2 * (b * a) + a := by rw [hb]; grind
        have t3 : (b + 1) * p = 2 * (b * a) + b + 2 * a + 1 := by rw [ha]; grind
        omega
      have h9 : q * (k + 1) / p < q / 2 + 1 := Nat.div_lt_of_lt_mul (by rw [Nat.mul_comm p]; exact this)
      omega
    omega
  have hq0 : 0 < q := by have := hq.1; omega
  have hp0 : 0 < p := by have := hp.1; omega
  have e1 : suN (fun k => q * (k + 1) / p) (p / 2) = suN (fun k => suN (fun j => if p * (j + 1) ≤ q * (k + 1) then 1 else 0) (q / 2)) (p / 2) := foN_congr _ (fun k hk => main p q hp h2 h2' hq0 k hk)
  have e2 : suN (fun k => p * (k + 1) / q) (q / 2) = suN (fun k => suN (fun j => if q * (j + 1) ≤ p * (k + 1) then 1 else 0) (p / 2)) (q / 2) := foN_congr _ (fun k hk => main q p hq h2' h2 hp0 k hk)
  rw [e1, e2, ← suN_swap (fun j k => if q * (j + 1) ≤ p * (k + 1) then 1 else 0) (q / 2) (p / 2), ← suN_add]
  have e3 : suN (fun k => suN (fun j => if p * (j + 1) ≤ q * (k + 1) then 1 else 0) (q / 2) + suN (fun j => if q * (k + 1) ≤ p * (j + 1) then 1 else 0) (q / 2)) (p / 2) = suN (fun _ => q / 2) (p / 2) := by
    refine foN_congr _ (fun k hk => ?_)
    try simp only
    rw [← suN_add]
    have : suN (fun j => (if p * (j + 1) ≤ q * (k + 1) then 1 else 0) + (if q * (k + 1) ≤ p * (j + 1) then 1 else 0)) (q / 2) = suN (fun _ => 1) (q / 2) := by
      refine foN_congr _ (fun j hj => ?_)
      have hne2 : p * (j + 1) ≠ q * (k + 1) := by
        intro he
        have hd : p ∣ q * (k + 1) := ⟨j + 1, he.symm⟩
        rcases pr_mul hp hd with g | g
        · rcases hq.2 p g with g | g
          · have := hp.1
            omega
          · exact hne g
        · have := Nat.le_of_dvd (by omega) g
          omega
      try simp only
      by_cases g : p * (j + 1) ≤ q * (k + 1)
      · rw [if_pos g, if_neg (by omega)]
      · rw [if_neg g, if_pos (by omega)]
    rw [this, suN_const, Nat.mul_one]
  rw [e3, suN_const]
/-- the law of reciprocity -/
theorem recip {p q : Nat} (hp : Pr p) (hq : Pr q) (h2 : p % 2 = 1) (h2' : q % 2 = 1) (hne : p ≠ q) : sgN (muN q p) * sgN (muN p q) = sgN (p / 2 * (q / 2)) := by
  have d1 : ¬ p ∣ q := fun h => by
    rcases hq.2 p h with g | g
    · have := hp.1
      omega
    · exact hne g
  have d2 : ¬ q ∣ p := fun h => by
    rcases hp.2 q h with g | g
    · have := hq.1
      omega
    · exact hne g.symm
  rw [mu_odd hp h2 d1 h2', mu_odd hq h2' d2 h2, ← sgN_add, lattice hp hq h2 h2' hne]
/-! Euler -/
def PD : Nat → (Int → Int) → Int → Prop
  | 0, f, l => ∀ x, f x = l
  | n + 1, f, l => ∃ a g, PD n g l ∧ ∀ x, f x = a + x * g x
theorem pd_div : ∀ (n : Nat) (f : Int → Int) (l : Int), PD (n + 1) f l → ∀ r, ∃ g, PD n g l ∧ ∀ x, f x - f r = (x - r) * g x
  | 0, f, l, ⟨a, g, h1, h2⟩, r => ⟨fun _ => l, fun _ => rfl, fun x => by rw [h2, h2, h1, h1]; grind⟩
  | n + 1, f, l, ⟨a, g, h1, h2⟩, r => by
    obtain ⟨k, k1, k2⟩ := pd_div n g l h1 r
    refine ⟨fun x => g r + x * k x, ⟨g r, k, k1, fun _ => rfl⟩, fun x => ?_⟩
    have := k2 x
    try simp only
    rw [h2, h2]
    have e : g x = g r + (x - r) * k x := by omega
    rw [e]
    grind
theorem pd_roots {p : Nat} (hp : Pr p) : ∀ (n : Nat) (f : Int → Int) (l : Int), PD n f l → ¬ (p : Int) ∣ l → ∀ xs : Nat → Int, (∀ i j, i < j → j ≤ n → ¬ (p : Int) ∣ xs i - xs j) → ¬ ∀ i, i ≤ n → (p : Int) ∣ f (xs i)
  | 0, f, l, h, hl, xs, _, hr => hl (by have := hr 0 (Nat.le_refl _); rwa [h] at this)
  | n + 1, f, l, h, hl, xs, hx, hr => by
    obtain ⟨g, g1, g2⟩ := pd_div n f l h (xs (n + 1))
    refine pd_roots hp n g l g1 hl xs (fun i j hij hj => hx i j hij (by omega)) (fun i hi => ?_)
    have h1 := Int.dvd_sub (hr i (by omega)) (hr (n + 1) (Nat.le_refl _))
    rw [g2] at h1
    rcases pr_mulI hp h1 with h | h
    · exact absurd h (hx i (n + 1) (by omega) (Nat.le_refl _))
    · exact h
theorem pd_pow : ∀ n, PD n (fun x => x ^ n) 1
  | 0 => fun x => Int.pow_zero x
  | n + 1 => ⟨0, fun x => x ^ n, pd_pow n, fun x => by
    show x ^ (n + 1) = 0 + x * x ^ n
    rw [Int.pow_succ, Int.mul_comm, Int.zero_add]⟩
theorem pow_dvd {p a b : Int} (h : p ∣ a - b) : ∀ n : Nat, p ∣ a ^ n - b ^ n
  | 0 => by
    rw [Int.pow_zero, Int.pow_zero]
    exact Int.dvd_zero p
  | n + 1 => by
    have : a ^ (n + 1) - b ^ (n + 1) = (a ^ n - b ^ n) * a + b ^ n * (a - b) := by
      rw [Int.pow_succ, Int.pow_succ]
      grind
    rw [this]
    exact Int.dvd_add (Int.dvd_mul_of_dvd_left (pow_dvd h n)) (Int.dvd_mul_of_dvd_right h)
/-- Fermat -/
theorem fermat {v p : Nat} (hp : Pr p) (h2 : p % 2 = 1) (hv : ¬ p ∣ v) : (p : Int) ∣ (v : Int) ^ (p - 1) - 1 := by
  have h := gauss_pow hp h2 hv
  have e : p - 1 = p / 2 * 2 := by omega
  rw [e, Int.pow_mul]
  have : ((v : Int) ^ (p / 2)) ^ 2 - 1 = ((v : Int) ^ (p / 2) - sgN (muN v p)) * ((v : Int) ^ (p / 2) + sgN (muN v p)) := by
    have := sgN_sq (muN v p)
    grind
  rw [this]
  exact Int.dvd_mul_of_dvd_left h
def isSqm (v p : Nat) : Prop := ∃ x : Nat, x * x % p = v % p
theorem euler_sq {v p : Nat} (hp : Pr p) (h2 : p % 2 = 1) (hv : ¬ p ∣ v) (hs : isSqm v p) : sgN (muN v p) = 1 := by
  obtain ⟨x, hx⟩ := hs
  have hpx : ¬ p ∣ x := by
    intro h
    obtain ⟨t, rfl⟩ := h
    rw [Nat.mul_assoc, Nat.mul_mod_right] at hx
    exact hv (Nat.dvd_of_mod_eq_zero hx.symm)
  have hd : (p : Int) ∣ ((v : Nat) : Int) - ((x * x : Nat) : Int) := by
    refine Int.dvd_of_emod_eq_zero ?_
    rw [Int.sub_emod, ← Int.natCast_emod, ← Int.natCast_emod, hx, Int.sub_self, Int.zero_emod]
  have h1 := pow_dvd hd (p / 2)
  have h3 := gauss_pow hp h2 hv
  have h4 := fermat hp h2 hpx
  have e : ((x * x : Nat) : Int) ^ (p / 2) = (x : Int) ^ (p - 1) := by
    rw [Int.natCast_mul, show p - 1 = 2 * (p / 2) by omega, Int.pow_mul]
    congr 1
    grind
  rw [e] at h1
  rcases sgN_pm (muN v p) with g | g
  · exact g
  · exfalso
    rw [g] at h3
    have h5 : (p : Int) ∣ 2 := by
      have := Int.dvd_add (Int.dvd_sub h3 h1) (Int.dvd_neg.2 h4)
      have e2 : (v : Int) ^ (p / 2) - -1 - ((v : Int) ^ (p / 2) - (x : Int) ^ (p - 1)) + -((x : Int) ^ (p - 1) - 1) = 2 := by omega
      rw [e2] at this
      exact this
    have := Int.le_of_dvd (by decide) h5
    have := hp.1
    omega
theorem euler_non {v p : Nat} (hp : Pr p) (h2 : p % 2 = 1) (hv : ¬ p ∣ v) (hs : sgN (muN v p) = 1) : isSqm v p := by
  by_cases h : isSqm v p
  · exact h
  exfalso
  have hp0 : 0 < p := by have := hp.1; omega
  have hh : 0 < p / 2 := by have := hp.1; omega
  have hpd : PD (p / 2) (fun x => x ^ (p / 2) - 1) 1 := by
    obtain ⟨n, hn⟩ : ∃ n, p / 2 = n + 1 := ⟨p / 2 - 1, by omega⟩
    rw [hn]
    refine ⟨-1, fun x => x ^ n, pd_pow n, fun x => ?_⟩
    show x ^ (n + 1) - 1 = -1 + x * x ^ n
    rw [Int.pow_succ, Int.mul_comm]
    omega
  refine pd_roots hp _ _ _ hpd ?_ (fun i => if i < p / 2 then ((i + 1 : Nat) : Int) * ((i + 1 : Nat) : Int) else (v : Int)) ?_ ?_
  · intro hd
    have := Int.le_of_dvd (by decide) hd
    have := hp.1
    omega
  · intro i j hij hj hd
    try simp only at hd
    rw [if_pos (show i < p / 2 by omega)] at hd
    by_cases g : j < p / 2
    · rw [if_pos g] at hd
      have e : ((i + 1 : Nat) : Int) * ((i + 1 : Nat) : Int) - ((j + 1 : Nat) : Int) * ((j + 1 : Nat) : Int) = (((i + 1 : Nat) : Int) - ((j + 1 : Nat) : Int)) * (((i + 1 + (j + 1) : Nat)) : Int) := by
        rw [Int.natCast_add (i + 1)]
        grind
      rw [e] at hd
      rcases pr_mulI hp hd with k | k
      · have k2 := Int.le_of_dvd (by omega) (Int.dvd_neg.2 k)
        omega
      · have := Nat.le_of_dvd (by omega) (Int.natCast_dvd_natCast.1 k)
        omega
    · rw [if_neg g] at hd
      refine h ⟨i + 1, ?_⟩
      have h5 := Int.emod_emod_of_dvd
      have h6 : ((((i + 1) * (i + 1) : Nat) : Int)) % p = (v : Int) % p := by
        refine Int.emod_eq_emod_iff_emod_sub_eq_zero.2 ?_
        rw [Int.natCast_mul]
        exact Int.emod_eq_zero_of_dvd hd
      rw [← Int.natCast_emod, ← Int.natCast_emod] at h6
      exact Int.ofNat_inj.1 h6
  · intro i hi
    try simp only
    by_cases g : i < p / 2
    · rw [if_pos g]
      have hnd : ¬ p ∣ i + 1 := fun hd => by
        have := Nat.le_of_dvd (by omega) hd
        omega
      have := fermat hp h2 hnd
      rw [show p - 1 = 2 * (p / 2) by omega, Int.pow_mul] at this
      have e : (((i + 1 : Nat) : Int) ^ 2) = ((i + 1 : Nat) : Int) * ((i + 1 : Nat) : Int) := by grind
      rw [e] at this
      exact this
    · rw [if_neg g]
      have := gauss_pow hp h2 hv
      rw [hs] at this
      exact this
