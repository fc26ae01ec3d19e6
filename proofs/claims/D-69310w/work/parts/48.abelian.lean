/-! finite abelian groups: orders, and generators that are chosen one by one -/
def isGp {α : Type} (mul : α → α → α) (e : α) : Prop := (∀ i j k, mul (mul i j) k = mul i (mul j k)) ∧ (∀ i j, mul i j = mul j i) ∧ (∀ i, mul e i = i) ∧ (∀ i, ∃ j, mul i j = e)
def finG (α : Type) (n : Nat) : Prop := ∃ c : α → Nat, (∀ x, c x < n) ∧ ∀ x y, c x = c y → x = y
def pw {α : Type} (mul : α → α → α) (e k : α) : Nat → α
  | 0 => e
  | m + 1 => mul (pw mul e k m) k
theorem gp_e {α : Type} {mul : α → α → α} {e : α} (G : isGp mul e) (x : α) : mul x e = x := by rw [G.2.1, G.2.2.1]
theorem gp_cancel {α : Type} {mul : α → α → α} {e : α} (G : isGp mul e) {x y z : α} (h : mul x y = mul x z) : y = z := by
  obtain ⟨j, hj⟩ := G.2.2.2 x
  have : mul j (mul x y) = mul j (mul x z) := by rw [h]
  rw [← G.1, ← G.1, G.2.1 j x, hj, G.2.2.1, G.2.2.1] at this
  exact this
theorem gp_swap {α : Type} {mul : α → α → α} {e : α} (G : isGp mul e) (a b c d : α) : mul (mul a b) (mul c d) = mul (mul a c) (mul b d) := by
  rw [G.1, ← G.1 b c d, G.2.1 b c, G.1 c b d, ← G.1]
theorem pw_one {α : Type} {mul : α → α → α} {e : α} (G : isGp mul e) (k : α) : pw mul e k 1 = k := G.2.2.1 k
theorem pw_add {α : Type} {mul : α → α → α} {e : α} (G : isGp mul e) (k : α) (a : Nat) : ∀ b, pw mul e k (a + b) = mul (pw mul e k a) (pw mul e k b)
  | 0 => (gp_e G _).symm
  | b + 1 => by
    show mul (pw mul e k (a + b)) k = mul (pw mul e k a) (mul (pw mul e k b) k)
    rw [pw_add G k a b, G.1]
theorem pw_pw {α : Type} {mul : α → α → α} {e : α} (G : isGp mul e) (k : α) (a : Nat) : ∀ b, pw mul e (pw mul e k a) b = pw mul e k (a * b)
  | 0 => rfl
  | b + 1 => by
    show mul (pw mul e (pw mul e k a) b) (pw mul e k a) = _
    rw [pw_pw G k a b, Nat.mul_succ, pw_add G]
theorem pw_e {α : Type} {mul : α → α → α} {e : α} (G : isGp mul e) : ∀ b, pw mul e e b = e
  | 0 => rfl
  | b + 1 => by
    show mul (pw mul e e b) e = e
    rw [pw_e G b, G.2.2.1]
theorem pw_mul {α : Type} {mul : α → α → α} {e : α} (G : isGp mul e) (x y : α) : ∀ b, pw mul e (mul x y) b = mul (pw mul e x b) (pw mul e y b)
  | 0 => (gp_e G e).symm
  | b + 1 => by
    show mul (pw mul e (mul x y) b) (mul x y) = mul (mul (pw mul e x b) x) (mul (pw mul e y b) y)
    rw [pw_mul G x y b, gp_swap G]
theorem gp_period {α : Type} {mul : α → α → α} {e : α} (G : isGp mul e) {n : Nat} (F : finG α n) (k : α) : ∃ m, 0 < m ∧ m ≤ n ∧ pw mul e k m = e := by
  obtain ⟨c, c1, c2⟩ := F
  obtain ⟨i, j, h1, h2, h3⟩ := pigeon n (fun i => c (pw mul e k i)) (fun i _ => c1 _)
  refine ⟨j - i, by omega, by omega, ?_⟩
  have h4 := c2 _ _ h3
  have h5 : pw mul e k j = mul (pw mul e k i) (pw mul e k (j - i)) := by
    rw [← pw_add G, show i + (j - i) = j by omega]
  rw [h5] at h4
  exact (gp_cancel G ((gp_e G _).trans h4)).symm
/-- the order of an element -/
def isOrd {α : Type} (mul : α → α → α) (e k : α) (m : Nat) : Prop := 0 < m ∧ pw mul e k m = e ∧ ∀ j, 0 < j → j < m → pw mul e k j ≠ e
theorem least_of {P : Nat → Prop} : ∀ n, P n → ∃ m, m ≤ n ∧ P m ∧ ∀ j, j < m → ¬ P j := by
  intro n
  induction n using Nat.strongRecOn with
  | _ n ih =>
    intro hn
    by_cases h : ∃ j, j < n ∧ P j
    · obtain ⟨j, j1, j2⟩ := h
      obtain ⟨m, m1, m2, m3⟩ := ih j j1 j2
      exact ⟨m, by omega, m2, m3⟩
    · exact ⟨n, Nat.le_refl _, hn, fun j hj hp => h ⟨j, hj, hp⟩⟩
theorem ord_ex {α : Type} {mul : α → α → α} {e : α} (G : isGp mul e) {n : Nat} (F : finG α n) (k : α) : ∃ m, m ≤ n ∧ isOrd mul e k m := by
  obtain ⟨m, m0, m1, m2⟩ := gp_period G F k
  obtain ⟨r, r1, r2, r3⟩ := least_of (P := fun m => 0 < m ∧ pw mul e k m = e) m ⟨m0, m2⟩
  exact ⟨r, by omega, r2.1, r2.2, fun j j0 j1 h => r3 j j1 ⟨j0, h⟩⟩
theorem ord_unique {α : Type} {mul : α → α → α} {e k : α} {m r : Nat} (h : isOrd mul e k m) (h' : isOrd mul e k r) : m = r := by
  rcases Nat.lt_trichotomy m r with g | g | g
  · exact absurd h.2.1 (h'.2.2 m h.1 g)
  · exact g
  · exact absurd h'.2.1 (h.2.2 r h'.1 g)
theorem ord_dvd {α : Type} {mul : α → α → α} {e k : α} (G : isGp mul e) {m : Nat} (h : isOrd mul e k m) (j : Nat) : pw mul e k j = e ↔ m ∣ j := by
  have hz : ∀ q, pw mul e k (m * q) = e := fun q => by rw [← pw_pw G, h.2.1, pw_e G]
  constructor
  · intro hj
    have h1 := Nat.div_add_mod j m
    have h2 : pw mul e k (j % m) = e := by
      rw [← h1, pw_add G, hz, G.2.2.1] at hj
      exact hj
    have h3 := Nat.mod_lt j h.1
    by_cases h4 : j % m = 0
    · exact Nat.dvd_of_mod_eq_zero h4
    · exact absurd h2 (h.2.2 _ (by omega) h3)
  · rintro ⟨q, rfl⟩
    exact hz q
theorem ord_mod {α : Type} {mul : α → α → α} {e k : α} (G : isGp mul e) {m : Nat} (h : isOrd mul e k m) (j : Nat) : pw mul e k (j % m) = pw mul e k j := by
  have h1 := Nat.div_add_mod j m
  have : pw mul e k j = mul (pw mul e k (m * (j / m))) (pw mul e k (j % m)) := by rw [← pw_add G, h1]
  rw [this, (ord_dvd G h _).2 (Nat.dvd_mul_right _ _), G.2.2.1]
theorem ord_inj {α : Type} {mul : α → α → α} {e k : α} (G : isGp mul e) {m : Nat} (h : isOrd mul e k m) {i j : Nat} (hi : i < m) (hj : j < m) (he : pw mul e k i = pw mul e k j) : i = j := by
  have main : ∀ i j, i ≤ j → j < m → pw mul e k i = pw mul e k j → i = j := by
    intro i j hij hj he
    have h5 : pw mul e k j = mul (pw mul e k i) (pw mul e k (j - i)) := by
      rw [← pw_add G, show i + (j - i) = j by omega]
    rw [h5] at he
    have h6 := (gp_cancel G ((gp_e G _).trans he)).symm
    by_cases h7 : j - i = 0
    · omega
    · exact absurd h6 (h.2.2 _ (by omega) (by omega))
  rcases Nat.le_total i j with g | g
  · exact main i j g hj he
  · exact (main j i g hi he.symm).symm
theorem gcd_one {m n m' n' : Nat} (hg : 0 < Nat.gcd m n) (hm : m = Nat.gcd m n * m') (hn : n = Nat.gcd m n * n') : Nat.gcd m' n' = 1 := by
  have h1 : Nat.gcd (Nat.gcd m n * m') (Nat.gcd m n * n') = Nat.gcd m n * Nat.gcd m' n' := Nat.gcd_mul_left _ _ _
  rw [← hm, ← hn] at h1
  have h2 : Nat.gcd m n * 1 = Nat.gcd m n * Nat.gcd m' n' := by omega
  exact (Nat.eq_of_mul_eq_mul_left hg h2).symm
/-- the orders of powers -/
theorem ord_pw {α : Type} {mul : α → α → α} {e k : α} (G : isGp mul e) {m : Nat} (h : isOrd mul e k m) (i : Nat) : isOrd mul e (pw mul e k i) (m / Nat.gcd m i) := by
  have hg : 0 < Nat.gcd m i := Nat.gcd_pos_of_pos_left _ h.1
  obtain ⟨m', hm⟩ := Nat.gcd_dvd_left m i
  obtain ⟨i', hi⟩ := Nat.gcd_dvd_right m i
  have e1 : m / Nat.gcd m i = m' := Nat.div_eq_of_eq_mul_right hg hm
  have hc : Nat.gcd m' i' = 1 := gcd_one hg hm hi
  rw [e1]
  have hm0 : 0 < m' := by
    rcases Nat.eq_zero_or_pos m' with g | g
    · rw [g, Nat.mul_zero] at hm
      have := h.1
      omega
    · exact g
  have key : ∀ j, pw mul e (pw mul e k i) j = e ↔ m' ∣ j := by
    intro j
    rw [pw_pw G, ord_dvd G h]
    constructor
    · intro hd
      have : Nat.gcd m i * m' ∣ Nat.gcd m i * (i' * j) := by
        rw [← Nat.mul_assoc, ← hi, ← hm]
        exact hd
      have := Nat.dvd_of_mul_dvd_mul_left hg this
      exact Nat.Coprime.dvd_of_dvd_mul_left hc this
    · rintro ⟨q, rfl⟩
      refine ⟨i' * q, ?_⟩
      generalize Nat.gcd m i = g at hm hi
      rw [hm, hi]
      simp only [Nat.mul_assoc, Nat.mul_left_comm, Nat.mul_comm]
  refine ⟨hm0, (key _).2 (Nat.dvd_refl _), fun j j0 j1 hj => ?_⟩
  have := Nat.le_of_dvd j0 ((key j).1 hj)
  omega
/-! subgroups -/
def isSub {α : Type} (mul : α → α → α) (e : α) (H : α → Prop) : Prop := H e ∧ ∀ x y, H x → H y → H (mul x y)
theorem sub_pw {α : Type} {mul : α → α → α} {e : α} {H : α → Prop} (S : isSub mul e H) {x : α} (hx : H x) : ∀ j, H (pw mul e x j)
  | 0 => S.1
  | j + 1 => S.2 _ _ (sub_pw S hx j) hx
theorem sub_inv {α : Type} {mul : α → α → α} {e : α} {H : α → Prop} (G : isGp mul e) {n : Nat} (F : finG α n) (S : isSub mul e H) {x : α} (hx : H x) : ∃ y, H y ∧ mul x y = e := by
  obtain ⟨m, -, m0, m1, -⟩ := ord_ex G F x
  refine ⟨pw mul e x (m - 1), sub_pw S hx _, ?_⟩
  have : pw mul e x m = mul (pw mul e x 1) (pw mul e x (m - 1)) := by rw [← pw_add G, show 1 + (m - 1) = m by omega]
  rw [pw_one G] at this
  rw [← this, m1]
theorem sub_left {α : Type} {mul : α → α → α} {e : α} {H : α → Prop} (G : isGp mul e) {n : Nat} (F : finG α n) (S : isSub mul e H) {x y : α} (hx : H x) (hxy : H (mul x y)) : H y := by
  obtain ⟨z, z1, z2⟩ := sub_inv G F S hx
  have := S.2 _ _ z1 hxy
  rw [← G.1, G.2.1 z x, z2, G.2.2.1] at this
  exact this
/-- the order of an element modulo a subgroup -/
def oH {α : Type} (mul : α → α → α) (e : α) (H : α → Prop) (x : α) (m : Nat) : Prop := 0 < m ∧ H (pw mul e x m) ∧ ∀ j, H (pw mul e x j) → m ∣ j
theorem oH_ex {α : Type} {mul : α → α → α} {e : α} {H : α → Prop} (G : isGp mul e) {n : Nat} (F : finG α n) (S : isSub mul e H) (x : α) : ∃ m, oH mul e H x m := by
  obtain ⟨r, -, r0, r1, -⟩ := ord_ex G F x
  obtain ⟨m, -, m2, m3⟩ := least_of (P := fun m => 0 < m ∧ H (pw mul e x m)) r ⟨r0, by rw [r1]; exact S.1⟩
  refine ⟨m, m2.1, m2.2, fun j hj => ?_⟩
  have h1 := Nat.div_add_mod j m
  have h2 : H (pw mul e x (j % m)) := by
    rw [← h1, pw_add G] at hj
    exact sub_left G F S (by rw [← pw_pw G]; exact sub_pw S m2.2 _) hj
  have h3 := Nat.mod_lt j m2.1
  by_cases h4 : j % m = 0
  · exact Nat.dvd_of_mod_eq_zero h4
  · exact absurd ⟨by omega, h2⟩ (m3 _ h3)
theorem oH_unique {α : Type} {mul : α → α → α} {e : α} {H : α → Prop} {x : α} {m r : Nat} (h : oH mul e H x m) (h' : oH mul e H x r) : m = r := Nat.dvd_antisymm (h.2.2 _ h'.2.1) (h'.2.2 _ h.2.1)
theorem oH_pw {α : Type} {mul : α → α → α} {e : α} {H : α → Prop} (G : isGp mul e) {x : α} {a b : Nat} (h : oH mul e H x (a * b)) : oH mul e H (pw mul e x a) b := by
  have h0 := h.1
  have ha : 0 < a := Nat.pos_of_mul_pos_right h0
  refine ⟨Nat.pos_of_mul_pos_left h0, by rw [pw_pw G]; exact h.2.1, fun j hj => ?_⟩
  rw [pw_pw G] at hj
  exact Nat.dvd_of_mul_dvd_mul_left ha (h.2.2 _ hj)
theorem oH_cop {α : Type} {mul : α → α → α} {e : α} {H : α → Prop} (G : isGp mul e) {n : Nat} (F : finG α n) (S : isSub mul e H) {x y : α} {a b : Nat} (hx : oH mul e H x a) (hy : oH mul e H y b) (hc : Nat.gcd a b = 1) : oH mul e H (mul x y) (a * b) := by
  refine ⟨Nat.mul_pos hx.1 hy.1, ?_, fun j hj => ?_⟩
  · rw [pw_mul G]
    refine S.2 _ _ ?_ ?_
    · rw [← pw_pw G]
      exact sub_pw S hx.2.1 _
    · rw [Nat.mul_comm, ← pw_pw G]
      exact sub_pw S hy.2.1 _
  · have hb : b ∣ j := by
      have h1 := sub_pw S hj a
      rw [pw_pw G, pw_mul G] at h1
      have h2 : H (pw mul e x (j * a)) := by
        rw [Nat.mul_comm, ← pw_pw G]
        exact sub_pw S hx.2.1 _
      have h3 := hy.2.2 _ (sub_left G F S h2 h1)
      exact Nat.Coprime.dvd_of_dvd_mul_right ((Nat.gcd_comm b a).trans hc) h3
    have ha : a ∣ j := by
      have h1 := sub_pw S hj b
      rw [pw_pw G, pw_mul G, G.2.1] at h1
      have h2 : H (pw mul e y (j * b)) := by
        rw [Nat.mul_comm, ← pw_pw G]
        exact sub_pw S hy.2.1 _
      have h3 := hx.2.2 _ (sub_left G F S h2 h1)
      exact Nat.Coprime.dvd_of_dvd_mul_right hc h3
    exact Nat.Coprime.mul_dvd_of_dvd_of_dvd hc ha hb
/-- no power but the first one lies in the subgroup -/
def Apt {α : Type} (mul : α → α → α) (e : α) (H : α → Prop) (x : α) (m : Nat) : Prop := isOrd mul e x m ∧ ∀ j, H (pw mul e x j) → m ∣ j
def Pure {α : Type} (mul : α → α → α) (e : α) (H : α → Prop) : Prop := ∀ x m, 0 < m → H (pw mul e x m) → ∃ h, H h ∧ pw mul e x m = pw mul e h m
theorem pure_lift {α : Type} {mul : α → α → α} {e : α} {H : α → Prop} (G : isGp mul e) {n : Nat} (F : finG α n) (S : isSub mul e H) (P : Pure mul e H) {x : α} {m : Nat} (h : oH mul e H x m) : ∃ y, Apt mul e H y m := by
  obtain ⟨t, t1, t2⟩ := P x m h.1 h.2.1
  obtain ⟨z, z1, z2⟩ := sub_inv G F S t1
  have hd : ∀ j, H (pw mul e (mul x z) j) → m ∣ j := by
    intro j hj
    rw [pw_mul G, G.2.1] at hj
    exact h.2.2 _ (sub_left G F S (sub_pw S z1 j) hj)
  refine ⟨mul x z, ⟨h.1, ?_, fun j j0 j1 hj => ?_⟩, hd⟩
  · rw [pw_mul G, t2, ← pw_mul G, z2, pw_e G]
  · have := Nat.le_of_dvd j0 (hd j (by rw [hj]; exact S.1))
    omega
theorem pr_split {p : Nat} (hp : Pr p) : ∀ (k m : Nat), m ≤ k → 0 < m → ∃ i M, m = p ^ i * M ∧ ¬ p ∣ M := by
  intro k
  induction k with
  | zero => intro m h1 h2; omega
  | succ k ih =>
    intro m h1 h2
    by_cases h : p ∣ m
    · obtain ⟨r, hr⟩ := h
      have hr0 : 0 < r := by
        rcases Nat.eq_zero_or_pos r with g | g
        · rw [g, Nat.mul_zero] at hr
          omega
        · exact g
      have : 2 * r ≤ p * r := Nat.mul_le_mul_right _ hp.1
      obtain ⟨i, M, e1, e2⟩ := ih r (by omega) hr0
      exact ⟨i + 1, M, by rw [hr, e1, Nat.pow_succ, Nat.mul_comm (p ^ i) p, Nat.mul_assoc], e2⟩
    · exact ⟨0, m, by rw [Nat.pow_zero, Nat.one_mul], h⟩
theorem pr_cop_pow {p a : Nat} (hp : Pr p) (h : ¬ p ∣ a) (i : Nat) : Nat.gcd (p ^ i) a = 1 := Nat.Coprime.pow_left i (pr_cop hp h)
/-- the greatest order of what lies apart is a multiple of all orders -/
theorem apt_exp {α : Type} {mul : α → α → α} {e : α} {H : α → Prop} (G : isGp mul e) {n : Nat} (F : finG α n) (S : isSub mul e H) (P : Pure mul e H) {g : α} {m : Nat} (hg : Apt mul e H g m) (hmax : ∀ y r, Apt mul e H y r → r ≤ m) {x : α} {r : Nat} (hx : oH mul e H x r) : r ∣ m := by
  by_cases hrm : r ∣ m
  · exact hrm
  exfalso
  have hm0 : 0 < m := hg.1.1
  have hgg : 0 < Nat.gcd r m := Nat.gcd_pos_of_pos_left _ hx.1
  obtain ⟨r', hr⟩ := Nat.gcd_dvd_left r m
  obtain ⟨m', hm⟩ := Nat.gcd_dvd_right r m
  have hc : Nat.gcd r' m' = 1 := gcd_one hgg hr hm
  have hr1 : 2 ≤ r' := by
    rcases Nat.lt_or_ge r' 2 with g | g
    · exfalso
      have h0 : r' = 0 ∨ r' = 1 := by omega
      rcases h0 with h0 | h0
      · rw [h0, Nat.mul_zero] at hr
        have := hx.1
        omega
      · rw [h0, Nat.mul_one] at hr
        exact hrm (hr ▸ Nat.gcd_dvd_right r m)
    · exact g
  obtain ⟨p, p1, p2⟩ := ex_pr _ _ (Nat.le_refl _) hr1
  obtain ⟨i, M, hM, hMp⟩ := pr_split p1 _ m (Nat.le_refl _) hm0
  have hpm' : ¬ p ∣ m' := fun h => cop_not p1 hc p2 h
  have hig : p ^ i ∣ Nat.gcd r m := by
    have : p ^ i ∣ Nat.gcd r m * m' := by
      rw [← hm]
      exact ⟨M, hM⟩
    exact Nat.Coprime.dvd_of_dvd_mul_right (pr_cop_pow p1 hpm' i) this
  obtain ⟨R, hR⟩ : p ^ (i + 1) ∣ r := by
    rw [hr, Nat.pow_succ]
    exact Nat.mul_dvd_mul hig p2
  have hMx : 0 < M := by
    rcases Nat.eq_zero_or_pos M with g | g
    · rw [g, Nat.mul_zero] at hM
      omega
    · exact g
  have hgo : oH mul e H g m := ⟨hm0, by rw [hg.1.2.1]; exact S.1, hg.2⟩
  have o1 : oH mul e H (pw mul e x R) (p ^ (i + 1)) := oH_pw G (by rw [Nat.mul_comm, ← hR]; exact hx)
  have o2 : oH mul e H (pw mul e g (p ^ i)) M := oH_pw G (by rw [← hM]; exact hgo)
  have o3 := oH_cop G F S o1 o2 (pr_cop_pow p1 hMp _)
  obtain ⟨y, hy⟩ := pure_lift G F S P o3
  have hle := hmax y _ hy
  have : p ^ i * M < p ^ (i + 1) * M := by
    refine Nat.mul_lt_mul_of_pos_right ?_ hMx
    rw [Nat.pow_succ]
    have h1 : 0 < p ^ i := Nat.pow_pos (by have := p1.1; omega)
    have h2 : p ^ i * 2 ≤ p ^ i * p := Nat.mul_le_mul_left _ p1.1
    omega
  omega
/-- what a subgroup and one more element make -/
def joinH {α : Type} (mul : α → α → α) (e : α) (H : α → Prop) (g : α) (x : α) : Prop := ∃ h j, H h ∧ x = mul h (pw mul e g j)
theorem join_sub {α : Type} {mul : α → α → α} {e : α} {H : α → Prop} (G : isGp mul e) (S : isSub mul e H) (g : α) : isSub mul e (joinH mul e H g) := by
  refine ⟨⟨e, 0, S.1, (gp_e G e).symm⟩, ?_⟩
  rintro x y ⟨h, j, h1, rfl⟩ ⟨h', j', h1', rfl⟩
  refine ⟨mul h h', j + j', S.2 _ _ h1 h1', ?_⟩
  rw [pw_add G, gp_swap G]
theorem join_pure {α : Type} {mul : α → α → α} {e : α} {H : α → Prop} (G : isGp mul e) {n : Nat} (F : finG α n) (S : isSub mul e H) (P : Pure mul e H) {g : α} {m : Nat} (hg : Apt mul e H g m) (hexp : ∀ x r, oH mul e H x r → r ∣ m) : Pure mul e (joinH mul e H g) := by
  rintro x N N0 ⟨h, j, h1, h2⟩
  have hm0 : 0 < m := hg.1.1
  obtain ⟨r, hr⟩ := oH_ex G F S x
  have hxm : H (pw mul e x m) := by
    obtain ⟨q, hq⟩ := hexp x r hr
    rw [hq, ← pw_pw G]
    exact sub_pw S hr.2.1 _
  have hgg : 0 < Nat.gcd N m := Nat.gcd_pos_of_pos_left _ N0
  obtain ⟨N', hN⟩ := Nat.gcd_dvd_left N m
  obtain ⟨m', hm⟩ := Nat.gcd_dvd_right N m
  -- gcd goes into j
  obtain ⟨j', hj⟩ : Nat.gcd N m ∣ j := by
    have t1 : H (pw mul e x (N * m')) := by
      have : N * m' = m * N' := by
        generalize Nat.gcd N m = g at hN hm
        rw [hN, hm]
        simp only [Nat.mul_left_comm, Nat.mul_comm]
      rw [this, ← pw_pw G]
      exact sub_pw S hxm _
    rw [← pw_pw G, h2, pw_mul G] at t1
    have t2 := sub_left G F S (sub_pw S h1 m') t1
    rw [pw_pw G] at t2
    have t3 := hg.2 _ t2
    have hm'0 : 0 < m' := by
      rcases Nat.eq_zero_or_pos m' with g | g
      · rw [g, Nat.mul_zero] at hm
        omega
      · exact g
    have : Nat.gcd N m * m' ∣ j * m' := by
      rw [← hm]
      exact t3
    exact Nat.dvd_of_mul_dvd_mul_right hm'0 this
  -- a multiple of N that is like gcd modulo m
  obtain ⟨α', β, hab⟩ : ∃ α' β : Nat, N * α' = Nat.gcd N m + m * β := by
    obtain ⟨a, b, hb⟩ := bezN _ N m (Nat.le_refl _)
    refine ⟨(a % m + m).toNat, (-b - N * (a / m) + N).toNat, ?_⟩
    have ha0 : 0 ≤ a % m := Int.emod_nonneg _ (by omega)
    have ha := Int.emod_add_mul_ediv a m
    have e1 : (N : Int) * (a % m) = Nat.gcd N m + m * (-b - N * (a / m)) := by
      rw [← hb]
      have : a % m = a - m * (a / m) := by omega
      rw [this]
      grind
    have hb0 : 0 ≤ -b - N * (a / m) + N := by
      have h5 : 0 ≤ (N : Int) * (a % m) := Int.mul_nonneg (by omega) ha0
      have hgle : (Nat.gcd N m : Int) ≤ m := by
        have := Nat.le_of_dvd hm0 (Nat.gcd_dvd_right N m)
        omega
      have h6 : (m : Int) * (-1) ≤ m * (-b - N * (a / m)) := by omega
      have h7 := Int.le_of_mul_le_mul_left h6 (by omega)
      omega
    have : ((N * (a % m + m).toNat : Nat) : Int) = ((Nat.gcd N m + m * (-b - N * (a / m) + N).toNat : Nat) : Int) := by
      rw [Int.natCast_mul, Int.natCast_add, Int.natCast_mul, Int.toNat_of_nonneg (by omega), Int.toNat_of_nonneg hb0, Int.mul_add, Int.mul_add, e1, Int.mul_comm (m : Int) N]
      omega
    exact Int.ofNat_inj.1 this
  have ht : pw mul e g j = pw mul e (pw mul e g (α' * j')) N := by
    rw [pw_pw G, show α' * j' * N = Nat.gcd N m * j' + m * (β * j') by rw [Nat.mul_right_comm, Nat.mul_comm α' N, hab, Nat.add_mul, Nat.mul_assoc], pw_add G, ← hj, (ord_dvd G hg.1 (m * (β * j'))).2 (Nat.dvd_mul_right _ _), gp_e G]
  obtain ⟨z, hz⟩ := G.2.2.2 (pw mul e g (α' * j'))
  have h3 : pw mul e (mul x z) N = h := by
    rw [pw_mul G, h2, ht, G.1, ← pw_mul G, hz, pw_e G, gp_e G]
  obtain ⟨h', h4, h5⟩ := P (mul x z) N N0 (by rw [h3]; exact h1)
  refine ⟨mul h' (pw mul e g (α' * j')), ⟨h', _, h4, rfl⟩, ?_⟩
  rw [pw_mul G, ← h5, ← pw_mul G, G.1, G.2.1 z, hz, gp_e G]
theorem pure_one {α : Type} {mul : α → α → α} {e : α} (G : isGp mul e) : Pure mul e (fun x => x = e) := by
  intro x m _ h
  exact ⟨e, rfl, by rw [h, pw_e G]⟩
/-- outside a pure subgroup something lies apart -/
theorem apt_ex {α : Type} {mul : α → α → α} {e : α} {H : α → Prop} (G : isGp mul e) {n : Nat} (F : finG α n) (S : isSub mul e H) (P : Pure mul e H) {x : α} (hx : ¬ H x) : ∃ y m, 1 < m ∧ Apt mul e H y m := by
  obtain ⟨m, hm⟩ := oH_ex G F S x
  obtain ⟨y, hy⟩ := pure_lift G F S P hm
  refine ⟨y, m, ?_, hy⟩
  rcases Nat.lt_or_ge 1 m with g | g
  · exact g
  · have h1 : m = 1 := by have := hm.1; omega
    have := hm.2.1
    rw [h1, pw_one G] at this
    exact absurd this hx
/-- the two ways to see that no power lies inside -/
theorem apt_iff {α : Type} {mul : α → α → α} {e : α} {H : α → Prop} (G : isGp mul e) {n : Nat} (F : finG α n) (S : isSub mul e H) {x : α} {m : Nat} (h : isOrd mul e x m) : Apt mul e H x m ↔ ∀ p, Pr p → p ∣ m → ¬ H (pw mul e x (m / p)) := by
  constructor
  · intro ha p hp hpm hH
    have h1 := ha.2 _ hH
    obtain ⟨q, hq⟩ := hpm
    have hp0 : 0 < p := by have := hp.1; omega
    have e1 : m / p = q := by rw [hq]; exact Nat.mul_div_cancel_left _ hp0
    rw [e1] at h1
    have hq0 : 0 < q := by
      rcases Nat.eq_zero_or_pos q with g | g
      · rw [g, Nat.mul_zero] at hq
        have := h.1
        omega
      · exact g
    have h2 := Nat.le_of_dvd hq0 h1
    have : 2 * q ≤ p * q := Nat.mul_le_mul_right _ hp.1
    omega
  · intro hall
    obtain ⟨r, hr⟩ := oH_ex G F S x
    have hrm : r ∣ m := hr.2.2 _ (by rw [h.2.1]; exact S.1)
    obtain ⟨q, hq⟩ := hrm
    have hq0 : 0 < q := by
      rcases Nat.eq_zero_or_pos q with g | g
      · rw [g, Nat.mul_zero] at hq
        have := h.1
        omega
      · exact g
    rcases Nat.lt_or_ge q 2 with g | g
    · have : q = 1 := by omega
      rw [this, Nat.mul_one] at hq
      rw [hq] at h ⊢
      exact ⟨h, hr.2.2⟩
    · exfalso
      obtain ⟨p, p1, q', p2⟩ := ex_pr _ _ (Nat.le_refl _) g
      have hp0 : 0 < p := by have := p1.1; omega
      have e1 : m / p = r * q' := by
        rw [hq, p2, Nat.mul_left_comm]
        exact Nat.mul_div_cancel_left _ hp0
      refine hall p p1 ⟨r * q', by rw [hq, p2, Nat.mul_left_comm]⟩ ?_
      rw [e1, ← pw_pw G]
      exact sub_pw S hr.2.1 _
