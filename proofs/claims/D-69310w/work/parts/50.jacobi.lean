/-! Jacobi's symbol, by lists of odd primes -/
def legN (v p : Nat) : Int := if v % p = 0 then 0 else sgN (muN v p)
theorem rsN_mod (v p k : Nat) : rsN (v % p) p k = rsN v p k := by
  unfold rsN
  rw [Nat.mul_mod, Nat.mod_mod, ← Nat.mul_mod]
theorem leg_mod (v p : Nat) : legN (v % p) p = legN v p := by
  unfold legN muN
  rw [Nat.mod_mod]
  have : suN (fun k => if rsN (v % p) p k ≤ p / 2 then 0 else 1) (p / 2) = suN (fun k => if rsN v p k ≤ p / 2 then 0 else 1) (p / 2) := by
    refine foN_congr _ (fun k _ => ?_)
    simp only [rsN_mod]
  rw [this]
theorem leg_congr {v w p : Nat} (h : v % p = w % p) : legN v p = legN w p := by rw [← leg_mod v p, h, leg_mod]
theorem pm_eq {p : Nat} (hp : Pr p) (h2 : p % 2 = 1) {x y : Int} (hx : x = 1 ∨ x = -1) (hy : y = 1 ∨ y = -1) (h : (p : Int) ∣ x - y) : x = y := by
  have h3 := hp.1
  rcases hx with rfl | rfl <;> rcases hy with rfl | rfl
  · rfl
  · have := Int.le_of_dvd (by decide) h
    omega
  · have := Int.le_of_dvd (by decide) (Int.dvd_neg.2 h)
    omega
  · rfl
theorem leg_mul {p : Nat} (hp : Pr p) (h2 : p % 2 = 1) (v w : Nat) : legN (v * w) p = legN v p * legN w p := by
  unfold legN
  by_cases h1 : v % p = 0
  · rw [if_pos h1, Int.zero_mul, if_pos (Nat.mod_eq_zero_of_dvd (Nat.dvd_mul_right_of_dvd (Nat.dvd_of_mod_eq_zero h1) w))]
  · by_cases h3 : w % p = 0
    · rw [if_pos h3, Int.mul_zero, if_pos (Nat.mod_eq_zero_of_dvd (Nat.dvd_mul_left_of_dvd (Nat.dvd_of_mod_eq_zero h3) v))]
    · have d1 : ¬ p ∣ v := fun h => h1 (Nat.mod_eq_zero_of_dvd h)
      have d2 : ¬ p ∣ w := fun h => h3 (Nat.mod_eq_zero_of_dvd h)
      have d3 : ¬ p ∣ v * w := fun h => by
        rcases pr_mul hp h with g | g
        · exact d1 g
        · exact d2 g
      rw [if_neg h1, if_neg h3, if_neg (fun h => d3 (Nat.dvd_of_mod_eq_zero h))]
      have g1 := gauss_pow hp h2 d1
      have g2 := gauss_pow hp h2 d2
      have g3 := gauss_pow hp h2 d3
      refine pm_eq hp h2 (sgN_pm _) ?_ ?_
      · rcases sgN_pm (muN v p) with e1 | e1 <;> rcases sgN_pm (muN w p) with e2 | e2 <;> rw [e1, e2] <;> decide
      · rw [Int.natCast_mul, Int.mul_pow] at g3
        generalize (v : Int) ^ (p / 2) = V at *
        generalize (w : Int) ^ (p / 2) = W at *
        have e : sgN (muN (v * w) p) - sgN (muN v p) * sgN (muN w p) = (V - sgN (muN v p)) * W + sgN (muN v p) * (W - sgN (muN w p)) - (V * W - sgN (muN (v * w) p)) := by grind
        rw [e]
        exact Int.dvd_sub (Int.dvd_add (Int.dvd_mul_of_dvd_left g1) (Int.dvd_mul_of_dvd_right g2)) g3
theorem leg_one {p : Nat} (hp : Pr p) (h2 : p % 2 = 1) : legN 1 p = 1 := by
  have := hp.1
  unfold legN
  rw [if_neg (by rw [Nat.mod_eq_of_lt (by omega)]; decide)]
  refine euler_sq hp h2 (fun h => ?_) ⟨1, rfl⟩
  have := Nat.le_of_dvd (by decide) h
  omega
def allP (ps : List Nat) : Prop := ∀ p, p ∈ ps → Pr p ∧ p % 2 = 1
def prodL : List Nat → Nat
  | [] => 1
  | p :: t => p * prodL t
def jacL (v : Nat) : List Nat → Int
  | [] => 1
  | p :: t => legN v p * jacL v t
theorem allP_t {p : Nat} {t : List Nat} (h : allP (p :: t)) : allP t := fun q hq => h q (List.mem_cons_of_mem _ hq)
theorem allP_h {p : Nat} {t : List Nat} (h : allP (p :: t)) : Pr p ∧ p % 2 = 1 := h p (List.mem_cons_self ..)
theorem prodL_odd : ∀ ps : List Nat, allP ps → prodL ps % 2 = 1 ∧ 0 < prodL ps
  | [], _ => ⟨rfl, by decide⟩
  | p :: t, h => by
    have ih := prodL_odd t (allP_t h)
    have hp := (allP_h h)
    refine ⟨?_, Nat.mul_pos (by have := hp.1.1; omega) ih.2⟩
    show p * prodL t % 2 = 1
    rw [Nat.mul_mod, hp.2, ih.1]
theorem jac_mul (v w : Nat) : ∀ ps : List Nat, allP ps → jacL (v * w) ps = jacL v ps * jacL w ps
  | [], _ => rfl
  | p :: t, h => by
    show legN (v * w) p * jacL (v * w) t = legN v p * jacL v t * (legN w p * jacL w t)
    rw [leg_mul (allP_h h).1 (allP_h h).2, jac_mul v w t (allP_t h)]
    grind
theorem jac_congr {v w : Nat} : ∀ ps : List Nat, (∀ p, p ∈ ps → v % p = w % p) → jacL v ps = jacL w ps
  | [], _ => rfl
  | p :: t, h => by
    show legN v p * jacL v t = legN w p * jacL w t
    rw [leg_congr (h p (List.mem_cons_self ..)), jac_congr t (fun q hq => h q (List.mem_cons_of_mem _ hq))]
theorem prodL_dvd : ∀ (ps : List Nat) (p : Nat), p ∈ ps → p ∣ prodL ps
  | [], p, h => by simp at h
  | q :: t, p, h => by
    rcases List.mem_cons.1 h with g | g
    · subst g
      exact Nat.dvd_mul_right _ _
    · exact Nat.dvd_mul_left_of_dvd (prodL_dvd t p g) q
theorem jac_mod (v : Nat) (ps : List Nat) : jacL (v % prodL ps) ps = jacL v ps := jac_congr ps (fun p hp => Nat.mod_mod_of_dvd v (prodL_dvd ps p hp))
theorem jac_one : ∀ ps : List Nat, allP ps → jacL 1 ps = 1
  | [], _ => rfl
  | p :: t, h => by
    show legN 1 p * jacL 1 t = 1
    rw [leg_one (allP_h h).1 (allP_h h).2, jac_one t (allP_t h)]
    rfl
theorem jac_zero (p : Nat) (t : List Nat) : jacL 0 (p :: t) = 0 := by
  show legN 0 p * jacL 0 t = 0
  unfold legN
  rw [if_pos (Nat.zero_mod p), Int.zero_mul]
def t8 (m : Nat) : Int := if m % 8 = 1 ∨ m % 8 = 7 then 1 else -1
theorem t8_mul {p m : Nat} (hp : p % 2 = 1) (hm : m % 2 = 1) : t8 (p * m) = t8 p * t8 m := by
  unfold t8
  rw [Nat.mul_mod]
  have h1 : p % 8 = 1 ∨ p % 8 = 3 ∨ p % 8 = 5 ∨ p % 8 = 7 := by omega
  have h2 : m % 8 = 1 ∨ m % 8 = 3 ∨ m % 8 = 5 ∨ m % 8 = 7 := by omega
  rcases h1 with e | e | e | e <;> rcases h2 with e' | e' | e' | e' <;> rw [e, e'] <;> decide
theorem jac_two : ∀ ps : List Nat, allP ps → jacL 2 ps = t8 (prodL ps)
  | [], _ => rfl
  | p :: t, h => by
    have hp := allP_h h
    show legN 2 p * jacL 2 t = t8 (p * prodL t)
    rw [jac_two t (allP_t h), t8_mul hp.2 (prodL_odd t (allP_t h)).1]
    congr 1
    unfold legN t8
    rw [if_neg (by have := hp.1.1; rw [Nat.mod_eq_of_lt (by omega)]; decide), mu_two hp.1 hp.2]
theorem leg_recip {p q : Nat} (hp : Pr p) (hq : Pr q) (h2 : p % 2 = 1) (h2' : q % 2 = 1) (hne : p ≠ q) : legN q p = sgN (p / 2 * (q / 2)) * legN p q := by
  have h := recip hp hq h2 h2' hne
  unfold legN
  rw [if_neg, if_neg]
  · rw [← h, Int.mul_assoc, sgN_sq, Int.mul_one]
  · intro h0
    rcases hp.2 q (Nat.dvd_of_mod_eq_zero h0) with g | g
    · have := hq.1
      omega
    · exact hne g.symm
  · intro h0
    rcases hq.2 p (Nat.dvd_of_mod_eq_zero h0) with g | g
    · have := hp.1
      omega
    · exact hne g
theorem half_mul {p m : Nat} (hp : p % 2 = 1) (hm : m % 2 = 1) (k : Nat) : sgN (p * m / 2 * k) = sgN (p / 2 * k) * sgN (m / 2 * k) := by
  rw [← sgN_add, ← Nat.add_mul]
  refine sgN_congr ?_
  obtain ⟨a, ha⟩ : ∃ a, p = 2 * a + 1 := ⟨p / 2, by omega⟩
  obtain ⟨b, hb⟩ : ∃ b, m = 2 * b + 1 := ⟨m / 2, by omega⟩
  have e1 : p * m / 2 = 2 * (a * b) + a + b := by
    have : p * m = 2 * (2 * (a * b) + a + b) + 1 := by rw [ha, hb]; grind
    omega
  have e2 : p / 2 = a := by omega
  have e3 : m / 2 = b := by omega
  rw [e1, e2, e3, show (2 * (a * b) + a + b) * k = 2 * (a * b * k) + (a + b) * k by grind]
  omega
theorem leg_list {p : Nat} (hp : Pr p) (h2 : p % 2 = 1) : ∀ qs : List Nat, allP qs → ¬ p ∈ qs → legN (prodL qs) p = sgN (p / 2 * (prodL qs / 2)) * jacL p qs
  | [], _, _ => by
    show legN 1 p = sgN (p / 2 * (1 / 2)) * 1
    rw [leg_one hp h2]
    rfl
  | q :: t, h, hn => by
    have hq := allP_h h
    have ih := leg_list hp h2 t (allP_t h) (fun g => hn (List.mem_cons_of_mem _ g))
    show legN (q * prodL t) p = sgN (p / 2 * (q * prodL t / 2)) * (legN p q * jacL p t)
    rw [leg_mul hp h2, ih, leg_recip hp hq.1 h2 hq.2 (fun e => hn (e ▸ List.mem_cons_self ..)), Nat.mul_comm (p / 2) (q * prodL t / 2), half_mul hq.2 (prodL_odd t (allP_t h)).1, Nat.mul_comm (q / 2), Nat.mul_comm (prodL t / 2)]
    grind
theorem jac_recip (qs : List Nat) (hq : allP qs) : ∀ ps : List Nat, allP ps → (∀ p, p ∈ ps → ¬ p ∈ qs) → jacL (prodL qs) ps = sgN (prodL ps / 2 * (prodL qs / 2)) * jacL (prodL ps) qs
  | [], _, _ => by
    show (1 : Int) = sgN (1 / 2 * (prodL qs / 2)) * jacL 1 qs
    rw [jac_one qs hq, show 1 / 2 * (prodL qs / 2) = 0 by simp]
    rfl
  | p :: t, h, hn => by
    have hp := allP_h h
    have ih := jac_recip qs hq t (allP_t h) (fun r hr => hn r (List.mem_cons_of_mem _ hr))
    show legN (prodL qs) p * jacL (prodL qs) t = sgN (p * prodL t / 2 * (prodL qs / 2)) * jacL (p * prodL t) qs
    rw [ih, leg_list hp.1 hp.2 qs hq (hn p (List.mem_cons_self ..)), half_mul hp.2 (prodL_odd t (allP_t h)).1, jac_mul p _ qs hq]
    grind
theorem jac_common : ∀ (ps : List Nat) (v p : Nat), p ∈ ps → p ∣ v → jacL v ps = 0
  | [], v, p, h, _ => by simp at h
  | q :: t, v, p, h, hd => by
    show legN v q * jacL v t = 0
    rcases List.mem_cons.1 h with g | g
    · subst g
      unfold legN
      rw [if_pos (Nat.mod_eq_zero_of_dvd hd), Int.zero_mul]
    · rw [jac_common t v p g hd, Int.mul_zero]
/-- with or without something in common -/
theorem jac_turn {ps qs : List Nat} (hp : allP ps) (hq : allP qs) : jacL (prodL qs) ps = sgN (prodL ps / 2 * (prodL qs / 2)) * jacL (prodL ps % prodL qs) qs := by
  rw [jac_mod]
  by_cases h : ∃ p, p ∈ ps ∧ p ∈ qs
  · obtain ⟨p, h1, h2⟩ := h
    rw [jac_common ps _ p h1 (prodL_dvd qs p h2), jac_common qs _ p h2 (prodL_dvd ps p h1), Int.mul_zero]
  · exact jac_recip qs hq ps hp (fun p h1 h2 => h ⟨p, h1, h2⟩)
theorem list_ex : ∀ (k a : Nat), a ≤ k → a % 2 = 1 → ∃ qs, allP qs ∧ prodL qs = a := by
  intro k
  induction k with
  | zero => intro a h1 h2; omega
  | succ k ih =>
    intro a h1 h2
    rcases Nat.lt_or_ge a 2 with g | g
    · exact ⟨[], fun p hp => by simp at hp, show 1 = a by omega⟩
    · obtain ⟨p, p1, r, hr⟩ := ex_pr a a (Nat.le_refl _) g
      have hp2 := p1.1
      have hodd : p % 2 = 1 ∧ r % 2 = 1 := by
        rw [hr, Nat.mul_mod] at h2
        have x1 : p % 2 = 0 ∨ p % 2 = 1 := by omega
        have x2 : r % 2 = 0 ∨ r % 2 = 1 := by omega
        rcases x1 with x1 | x1 <;> rcases x2 with x2 | x2 <;> rw [x1, x2] at h2 <;> first | exact ⟨x1, x2⟩ | simp at h2
      have : 2 * r ≤ p * r := Nat.mul_le_mul_right _ hp2
      obtain ⟨qs, q1, q2⟩ := ih r (by omega) hodd.2
      refine ⟨p :: qs, ?_, ?_⟩
      · intro q hq
        rcases List.mem_cons.1 hq with e | e
        · subst e
          exact ⟨p1, hodd.1⟩
        · exact q1 q e
      · show p * prodL qs = a
        rw [q2, hr]
theorem half_par {a m : Nat} (ha : a % 2 = 1) (hm : m % 2 = 1) : sgN (m / 2 * (a / 2)) = if a % 4 = 3 ∧ m % 4 = 3 then -1 else 1 := by
  unfold sgN
  have h1 : a / 2 % 2 = 1 ↔ a % 4 = 3 := by omega
  have h2 : m / 2 % 2 = 1 ↔ m % 4 = 3 := by omega
  rw [Nat.mul_mod]
  have x1 : a / 2 % 2 = 0 ∨ a / 2 % 2 = 1 := by omega
  have x2 : m / 2 % 2 = 0 ∨ m / 2 % 2 = 1 := by omega
  rcases x1 with x1 | x1 <;> rcases x2 with x2 | x2
  · rw [x1, x2, if_pos rfl, if_neg (by omega)]
  · rw [x1, x2, if_pos rfl, if_neg (by omega)]
  · rw [x1, x2, if_pos rfl, if_neg (by omega)]
  · rw [x1, x2, if_neg (by decide), if_pos (by omega)]
/-- twos are taken out -/
theorem jac_twos {ps : List Nat} (hp : allP ps) (a : Nat) : jacL (2 * a) ps = t8 (prodL ps) * jacL a ps := by rw [jac_mul 2 a ps hp, jac_two ps hp]
/-- the greatest number is turned round -/
theorem jac_step {ps : List Nat} (hp : allP ps) {a m : Nat} (hm : prodL ps = m) (ha : a % 2 = 1) : ∃ qs, allP qs ∧ prodL qs = a ∧ jacL a ps = (if a % 4 = 3 ∧ m % 4 = 3 then -1 else 1) * jacL (m % a) qs := by
  obtain ⟨qs, q1, q2⟩ := list_ex a a (Nat.le_refl _) ha
  refine ⟨qs, q1, q2, ?_⟩
  have := jac_turn hp q1
  rw [q2, hm, half_par ha (by rw [← hm]; exact (prodL_odd ps hp).1)] at this
  exact this
