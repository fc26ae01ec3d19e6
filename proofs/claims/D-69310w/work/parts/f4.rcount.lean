/-! how many roots there are -/
def rcL (N : Nat) (d : Int) : List Nat := (List.range N).filter (fun x => decide ((N : Int) ∣ (x : Int) * x - d))
def rcN (N : Nat) (d : Int) : Nat := (rcL N d).length
theorem rcL_mem {N : Nat} {d : Int} {x : Nat} : x ∈ rcL N d ↔ x < N ∧ (N : Int) ∣ (x : Int) * x - d := by
  unfold rcL
  rw [List.mem_filter, List.mem_range, decide_eq_true_eq]
theorem rcL_nd (N : Nat) (d : Int) : (rcL N d).Nodup := List.nodup_range.filter _
theorem len_prod {α β : Type} : ∀ (l : List α) (m : List β), (l.flatMap (fun a => m.map (fun b => (a, b)))).length = l.length * m.length
  | [], m => by simp
  | a :: t, m => by
    rw [List.flatMap_cons, List.length_append, List.length_map, len_prod t m, List.length_cons, Nat.add_mul]
    omega
theorem sq_mod {N x : Nat} {d : Int} (h : (N : Int) ∣ (x : Int) * x - d) : (N : Int) ∣ ((x % N : Nat) : Int) * ((x % N : Nat) : Int) - d := by
  obtain ⟨k, hk⟩ := h
  have e : (x : Int) = N * (x / N : Nat) + (x % N : Nat) := by
    have := Nat.div_add_mod x N
    have h2 : ((N * (x / N) + x % N : Nat) : Int) = (x : Int) := by rw [this]
    push_cast at h2
    exact h2.symm
  generalize ((x / N : Nat) : Int) = Q at e
  generalize ((x % N : Nat) : Int) = R at e ⊢
  rw [e] at hk
  exact ⟨k - N * Q * Q - 2 * Q * R, by grind⟩
/-- places by two moduli without common divisor -/
theorem cnt_mul {l : List Nat} (hnd : l.Nodup) {M N : Nat} (hM : 0 < M) (hN : 0 < N) (hc : Nat.Coprime M N) (hl : ∀ x, x ∈ l → x < M * N) {A B : List Nat} (hA : ∀ x, x ∈ l → x % M ∈ A) (hB : ∀ x, x ∈ l → x % N ∈ B) : l.length ≤ A.length * B.length := by
  rw [← len_prod A B]
  have h := len_sub (l.map (fun x => (x % M, x % N))) (A.flatMap (fun a => B.map (fun b => (a, b)))) (by
    rw [List.Nodup, List.pairwise_map]
    refine List.Pairwise.imp_of_mem ?_ hnd
    intro x y hx hy hne z
    have z1 : x % M = y % M := congrArg Prod.fst z
    have z2 : x % N = y % N := congrArg Prod.snd z
    have key : ∀ x y : Nat, x ≤ y → y < M * N → x % M = y % M → x % N = y % N → x = y := by
      intro x y hxy hy z1 z2
      have d1 : M ∣ y - x := Nat.dvd_of_mod_eq_zero (Nat.sub_mod_eq_zero_of_mod_eq z1.symm)
      have d2 : N ∣ y - x := Nat.dvd_of_mod_eq_zero (Nat.sub_mod_eq_zero_of_mod_eq z2.symm)
      have d3 := Nat.Coprime.mul_dvd_of_dvd_of_dvd hc d1 d2
      rcases Nat.eq_zero_or_pos (y - x) with q | q
      · omega
      · have := Nat.le_of_dvd q d3
        omega
    rcases Nat.le_total x y with q | q
    · exact hne (key x y q (hl y hy) z1 z2)
    · exact hne (key y x q (hl x hx) z1.symm z2.symm).symm) (fun z hz => by
    obtain ⟨x, hx, rfl⟩ := List.mem_map.1 hz
    exact List.mem_flatMap.2 ⟨x % M, hA x hx, List.mem_map.2 ⟨x % N, hB x hx, rfl⟩⟩)
  rwa [List.length_map] at h
theorem dv_l {M N : Nat} {z : Int} (h : ((M * N : Nat) : Int) ∣ z) : (M : Int) ∣ z ∧ (N : Int) ∣ z := by
  rw [Int.natCast_mul] at h
  exact ⟨Int.dvd_trans (Int.dvd_mul_right _ _) h, Int.dvd_trans (Int.dvd_mul_left _ _) h⟩
theorem rc_mul {M N : Nat} (hM : 0 < M) (hN : 0 < N) (hc : Nat.Coprime M N) (d : Int) : rcN (M * N) d ≤ rcN M d * rcN N d := by
  refine cnt_mul (rcL_nd _ d) hM hN hc (fun x hx => (rcL_mem.1 hx).1) (fun x hx => ?_) (fun x hx => ?_)
  · exact rcL_mem.2 ⟨Nat.mod_lt _ hM, sq_mod (dv_l (rcL_mem.1 hx).2).1⟩
  · exact rcL_mem.2 ⟨Nat.mod_lt _ hN, sq_mod (dv_l (rcL_mem.1 hx).2).2⟩
/-- at most two when the prime does not go into d -/
theorem rc_unit {p : Nat} (hp : Pr p) (h2 : p % 2 = 1) (e : Nat) {d : Int} (hd : ¬ (p : Int) ∣ d) : rcN (p ^ e) d ≤ 2 := by
  have P0 : 0 < p ^ e := Nat.pow_pos (by have := hp.1; omega)
  have nd := rcL_nd (p ^ e) d
  unfold rcN
  have hmem : ∀ x, x ∈ rcL (p ^ e) d → x < p ^ e ∧ ((p ^ e : Nat) : Int) ∣ (x : Int) * x - d := fun x hx => rcL_mem.1 hx
  generalize rcL (p ^ e) d = l at *
  rcases Nat.eq_zero_or_pos e with e0 | e0
  · subst e0
    have h1 := len_sub l [0] nd (fun x hx => by
      have := (hmem x hx).1
      rw [Nat.pow_zero] at this
      rw [List.mem_singleton]
      omega)
    have : [0].length = 1 := rfl
    omega
  have pe : (p : Int) ∣ ((p ^ e : Nat) : Int) := Int.natCast_dvd_natCast.2 (Nat.dvd_trans (Nat.dvd_refl p) (by
    obtain ⟨k, rfl⟩ : ∃ k, e = k + 1 := ⟨e - 1, by omega⟩
    rw [Nat.pow_succ]
    exact Nat.dvd_mul_left _ _))
  have nx' : ∀ x, x ∈ l → ¬ (p : Int) ∣ (x : Int) := by
    intro x hx z
    obtain ⟨k, hk⟩ := (hmem x hx).2
    obtain ⟨j, hj⟩ := z
    obtain ⟨i, hi⟩ := pe
    refine hd ⟨j * x - i * k, ?_⟩
    rw [hi] at hk
    have e1 : (x : Int) * x = p * (j * x) := by
      conv => lhs; lhs; rw [hj]
      grind
    rw [e1] at hk
    grind
  -- y = x or x + y = p^e
  have pm : ∀ x y, x ∈ l → y ∈ l → x = y ∨ x + y = p ^ e := by
    intro x y hx hy
    obtain ⟨x1, x2⟩ := hmem x hx
    obtain ⟨y1, y2⟩ := hmem y hy
    have dv : ((p ^ e : Nat) : Int) ∣ ((x : Int) - y) * ((x : Int) + y) := by
      have := Int.dvd_sub x2 y2
      rwa [show (x : Int) * x - d - ((y : Int) * y - d) = ((x : Int) - y) * ((x : Int) + y) by grind] at this
    have x0 : 0 < x := by
      rcases Nat.eq_zero_or_pos x with q | q
      · exact (nx' x hx (by rw [q]; exact ⟨0, by simp⟩)).elim
      · exact q
    by_cases c : (p : Int) ∣ (x : Int) - y
    · have c2 : ¬ (p : Int) ∣ (x : Int) + y := by
        intro z
        have := Int.dvd_add c z
        rw [show (x : Int) - y + ((x : Int) + y) = 2 * x by omega] at this
        rcases pr_mulI hp this with q | q
        · have := Int.le_of_dvd (by decide) q
          have := hp.1
          omega
        · exact nx' x hx q
      have cop : Nat.Coprime (p ^ e) ((x : Int) + y).natAbs := Nat.Coprime.pow_left e (pr_cop hp (fun z => c2 (Int.ofNat_dvd_left.2 z)))
      have d2 : p ^ e ∣ ((x : Int) - y).natAbs := by
        refine Nat.Coprime.dvd_of_dvd_mul_right cop ?_
        rw [← Int.natAbs_mul]
        exact Int.ofNat_dvd_left.1 dv
      left
      rcases Nat.eq_zero_or_pos ((x : Int) - y).natAbs with q | q
      · omega
      · have := Nat.le_of_dvd q d2
        omega
    · have cop : Nat.Coprime (p ^ e) ((x : Int) - y).natAbs := Nat.Coprime.pow_left e (pr_cop hp (fun z => c (Int.ofNat_dvd_left.2 z)))
      have d2 : p ^ e ∣ ((x : Int) + y).natAbs := by
        refine Nat.Coprime.dvd_of_dvd_mul_left cop ?_
        rw [← Int.natAbs_mul]
        exact Int.ofNat_dvd_left.1 dv
      right
      obtain ⟨k, hk⟩ := d2
      have : k = 1 := by
        rcases Nat.lt_trichotomy k 1 with q | q | q
        · have : k = 0 := by omega
          rw [this, Nat.mul_zero] at hk
          omega
        · exact q
        · have : p ^ e * 2 ≤ p ^ e * k := Nat.mul_le_mul_left _ q
          omega
      rw [this, Nat.mul_one] at hk
      omega
  match l, nd, pm with
  | [], _, _ => exact Nat.zero_le _
  | x :: t, nd, pm =>
    have h1 := len_sub (x :: t) [x, p ^ e - x] nd (fun y hy => by
      rcases pm x y (List.mem_cons_self ..) hy with q | q
      · rw [q]
        exact List.mem_cons_self ..
      · have : y = p ^ e - x := by omega
        rw [this]
        exact List.mem_cons_of_mem _ (List.mem_cons_self ..))
    have : [x, p ^ e - x].length = 2 := rfl
    omega
/-- one step down when the prime goes into d -/
theorem rc_down {p : Nat} (hp : Pr p) (e : Nat) {d : Int} (hd : (p : Int) ∣ d) : rcN (p ^ (e + 2)) d = 0 ∨ ∃ d', rcN (p ^ (e + 2)) d ≤ p * rcN (p ^ e) d' := by
  have p0 : 0 < p := by have := hp.1; omega
  rcases Nat.eq_zero_or_pos (rcN (p ^ (e + 2)) d) with z | z
  · exact Or.inl z
  · right
    obtain ⟨x0, hx0⟩ := List.exists_mem_of_length_pos z
    have e2 : ((p ^ (e + 2) : Nat) : Int) = p * p * ((p ^ e : Nat) : Int) := by
      have : p ^ (e + 2) = p * p * p ^ e := by rw [Nat.pow_add, Nat.mul_comm, Nat.pow_two]
      rw [this]
      push_cast
      rfl
    have px : ∀ x, x ∈ rcL (p ^ (e + 2)) d → (p : Int) ∣ (x : Int) := by
      intro x hx
      obtain ⟨k, hk⟩ := (rcL_mem.1 hx).2
      rw [e2] at hk
      obtain ⟨j, hj⟩ := hd
      have : (p : Int) ∣ (x : Int) * x := ⟨j + p * ((p ^ e : Nat) : Int) * k, by rw [hj] at hk; grind⟩
      rcases pr_mulI hp this with q | q <;> exact q
    -- p p goes into d
    obtain ⟨d', hd'⟩ : ∃ d', d = p * p * d' := by
      obtain ⟨k, hk⟩ := (rcL_mem.1 hx0).2
      obtain ⟨j, hj⟩ := px x0 hx0
      rw [e2] at hk
      refine ⟨j * j - ((p ^ e : Nat) : Int) * k, ?_⟩
      rw [hj] at hk
      grind
    refine ⟨d', ?_⟩
    have pz : (p : Int) ≠ 0 := by omega
    have h1 := len_sub ((rcL (p ^ (e + 2)) d).map (fun x => (x / p / p ^ e, x / p % p ^ e))) ((List.range p).flatMap (fun a => (rcL (p ^ e) d').map (fun b => (a, b)))) (by
      rw [List.Nodup, List.pairwise_map]
      refine List.Pairwise.imp_of_mem ?_ (rcL_nd _ d)
      intro x y hx hy hne z
      have z1 : x / p / p ^ e = y / p / p ^ e := congrArg Prod.fst z
      have z2 : x / p % p ^ e = y / p % p ^ e := congrArg Prod.snd z
      have a1 := Nat.div_add_mod (x / p) (p ^ e)
      have a2 := Nat.div_add_mod (y / p) (p ^ e)
      rw [z1, z2] at a1
      have a3 : x / p = y / p := a1.symm.trans a2
      have b1 := Nat.mul_div_cancel' (Int.natCast_dvd_natCast.1 (px x hx))
      have b2 := Nat.mul_div_cancel' (Int.natCast_dvd_natCast.1 (px y hy))
      rw [a3] at b1
      exact hne (b1.symm.trans b2)) (fun z hz => by
      obtain ⟨x, hx, rfl⟩ := List.mem_map.1 hz
      obtain ⟨j, hj⟩ := Int.natCast_dvd_natCast.1 (px x hx)
      have hxj : x / p = j := by rw [hj, Nat.mul_div_cancel_left _ p0]
      obtain ⟨x1, k, hk⟩ := rcL_mem.1 hx
      have P0 : 0 < p ^ e := Nat.pow_pos p0
      refine List.mem_flatMap.2 ⟨x / p / p ^ e, List.mem_range.2 ?_, List.mem_map.2 ⟨x / p % p ^ e, rcL_mem.2 ⟨Nat.mod_lt _ P0, sq_mod ?_⟩, rfl⟩⟩
      · rw [Nat.div_lt_iff_lt_mul P0, hxj]
        have : p * j < p * (p * p ^ e) := by
          rw [← hj]
          have : p ^ (e + 2) = p * (p * p ^ e) := by rw [Nat.pow_add, Nat.mul_comm, Nat.pow_two, Nat.mul_assoc]
          omega
        exact Nat.lt_of_mul_lt_mul_left this
      · rw [hxj]
        refine ⟨k, Int.eq_of_mul_eq_mul_left (show (p : Int) * p ≠ 0 from fun q => by rcases Int.mul_eq_zero.1 q with q | q <;> exact pz q) ?_⟩
        rw [hd', hj, e2] at hk
        rw [Int.natCast_mul] at hk
        grind)
    rw [List.length_map, len_prod, List.length_range] at h1
    exact h1
theorem rc_one {p : Nat} (hp : Pr p) {d : Int} (hd : (p : Int) ∣ d) : rcN (p ^ 1) d ≤ 1 := by
  have h1 := len_sub (rcL (p ^ 1) d) [0] (rcL_nd _ d) (fun x hx => by
    obtain ⟨x1, x2⟩ := rcL_mem.1 hx
    rw [Nat.pow_one] at x1 x2
    have : (p : Int) ∣ (x : Int) * x := by
      have := Int.dvd_add x2 hd
      rwa [show (x : Int) * x - d + d = (x : Int) * x by omega] at this
    have h3 : p ∣ x := by
      rcases pr_mulI hp this with q | q <;> exact Int.natCast_dvd_natCast.1 q
    rw [List.mem_singleton]
    rcases Nat.eq_zero_or_pos x with q | q
    · exact q
    · have := Nat.le_of_dvd q h3
      omega)
  exact h1
theorem rc_zero (d : Int) (p : Nat) : rcN (p ^ 0) d ≤ 1 := by
  have h1 := len_sub (rcL (p ^ 0) d) [0] (rcL_nd _ d) (fun x hx => by
    have x1 := (rcL_mem.1 hx).1
    rw [Nat.pow_zero] at x1
    rw [List.mem_singleton]
    omega)
  exact h1
/-- odd prime powers: the square of the count -/
theorem rc_pow {p : Nat} (hp : Pr p) (h2 : p % 2 = 1) {a b : Nat} (hab : b ≤ a) (h4 : 4 * b ≤ a * p) : ∀ (e : Nat) (d : Int), b * (rcN (p ^ e) d * rcN (p ^ e) d) ≤ a * p ^ e
  | 0, d => by
    have h := rc_zero d p
    have : rcN (p ^ 0) d * rcN (p ^ 0) d ≤ 1 * 1 := Nat.mul_le_mul h h
    rw [Nat.pow_zero, Nat.mul_one]
    exact Nat.le_trans (Nat.mul_le_mul_left b this) (by omega)
  | 1, d => by
    by_cases c : (p : Int) ∣ d
    · have h := rc_one hp c
      have h3 : rcN (p ^ 1) d * rcN (p ^ 1) d ≤ 1 * 1 := Nat.mul_le_mul h h
      have := hp.1
      rw [Nat.pow_one] at h3 ⊢
      refine Nat.le_trans (Nat.mul_le_mul_left b h3) ?_
      have : a * 1 ≤ a * p := Nat.mul_le_mul_left a (by omega)
      omega
    · have h := rc_unit hp h2 1 c
      have h3 : rcN (p ^ 1) d * rcN (p ^ 1) d ≤ 2 * 2 := Nat.mul_le_mul h h
      rw [Nat.pow_one] at h3 ⊢
      refine Nat.le_trans (Nat.mul_le_mul_left b h3) ?_
      omega
  | e + 2, d => by
    have hpe : p ^ (e + 2) = p * p * p ^ e := by rw [Nat.pow_add, Nat.mul_comm, Nat.pow_two]
    have P0 : 0 < p ^ e := Nat.pow_pos (by have := hp.1; omega)
    by_cases c : (p : Int) ∣ d
    · rcases rc_down hp e c with z | ⟨d', hd'⟩
      · rw [z]
        simp
      · have ih := rc_pow hp h2 hab h4 e d'
        have h3 := Nat.mul_le_mul hd' hd'
        rw [hpe]
        rw [hpe] at h3
        refine Nat.le_trans (Nat.mul_le_mul_left b h3) ?_
        generalize rcN (p ^ e) d' = R at *
        have e1 : b * (p * R * (p * R)) = p * p * (b * (R * R)) := by grind
        have e2 : a * (p * p * p ^ e) = p * p * (a * p ^ e) := by grind
        rw [e1, e2]
        exact Nat.mul_le_mul_left _ ih
    · have h := rc_unit hp h2 (e + 2) c
      have h3 : rcN (p ^ (e + 2)) d * rcN (p ^ (e + 2)) d ≤ 2 * 2 := Nat.mul_le_mul h h
      refine Nat.le_trans (Nat.mul_le_mul_left b h3) ?_
      rw [hpe]
      have : a * p * 1 ≤ a * p * (p * p ^ e) := Nat.mul_le_mul_left _ (Nat.mul_pos (by have := hp.1; omega) P0)
      have e1 : a * (p * p * p ^ e) = a * p * (p * p ^ e) := by grind
      rw [e1]
      omega
/-- numbers without 2 and 3 -/
theorem rc_big : ∀ (k m : Nat), m ≤ k → 0 < m → m % 2 = 1 → ¬ 3 ∣ m → ∀ d : Int, rcN m d * rcN m d ≤ m
  | 0, m, h, h0, _, _, _ => by omega
  | k + 1, m, h, h0, h2, h3, d => by
    rcases Nat.lt_or_ge m 2 with z | z
    · have : m = 1 := by omega
      subst this
      have h := rc_zero d 1
      rw [Nat.pow_zero] at h
      exact Nat.mul_le_mul h h
    · obtain ⟨p, p1, p2⟩ := ex_pr m m (Nat.le_refl _) z
      obtain ⟨i, M, i1, i2⟩ := pr_split p1 m m (Nat.le_refl _) h0
      have po : p % 2 = 1 := by
        obtain ⟨j, hj⟩ := p2
        rcases Nat.mod_two_eq_zero_or_one p with q | q
        · exfalso
          have : m % 2 = 0 := by rw [hj, Nat.mul_mod, q, Nat.zero_mul]
          omega
        · exact q
      have p5 : 5 ≤ p := by
        have := p1.1
        have : p ≠ 3 := fun q => h3 (q ▸ p2)
        omega
      have M0 : 0 < M := by
        rcases Nat.eq_zero_or_pos M with q | q
        · rw [q, Nat.mul_zero] at i1
          omega
        · exact q
      have i0 : 0 < i := by
        rcases Nat.eq_zero_or_pos i with q | q
        · rw [q, Nat.pow_zero, Nat.one_mul] at i1
          rw [i1] at p2
          exact (i2 p2).elim
        · exact q
      have pi0 : 0 < p ^ i := Nat.pow_pos (by omega)
      have hMm : M < m := by
        have : 2 ≤ p ^ i := Nat.le_trans (by omega) (Nat.le_self_pow (by omega) p)
        have : 2 * M ≤ p ^ i * M := Nat.mul_le_mul_right M this
        omega
      have M2 : M % 2 = 1 := by
        rcases Nat.mod_two_eq_zero_or_one M with q | q
        · exfalso
          have : m % 2 = 0 := by rw [i1, Nat.mul_mod, q, Nat.mul_zero]
          omega
        · exact q
      have ih := rc_big k M (by omega) M0 M2 (fun q => h3 (by rw [i1]; exact Nat.dvd_trans q (Nat.dvd_mul_left _ _))) d
      have hp := rc_pow p1 po (a := 1) (b := 1) (Nat.le_refl _) (by omega) i d
      rw [Nat.one_mul, Nat.one_mul] at hp
      have hm := rc_mul pi0 M0 (pr_cop_pow p1 i2 i) d
      rw [← i1] at hm
      refine Nat.le_trans (Nat.mul_le_mul hm hm) ?_
      generalize rcN (p ^ i) d = X at *
      generalize rcN M d = Y at *
      have e1 : X * Y * (X * Y) = (X * X) * (Y * Y) := by grind
      rw [e1]
      refine Nat.le_trans (Nat.mul_le_mul hp ih) (Nat.le_of_eq i1.symm)
/-- odd numbers -/
theorem rc_odd {m : Nat} (h0 : 0 < m) (h2 : m % 2 = 1) (d : Int) : 3 * (rcN m d * rcN m d) ≤ 4 * m := by
  obtain ⟨i, M, i1, i2⟩ := pr_split prs5.2.1 m m (Nat.le_refl _) h0
  have M0 : 0 < M := by
    rcases Nat.eq_zero_or_pos M with q | q
    · rw [q, Nat.mul_zero] at i1
      omega
    · exact q
  have M2 : M % 2 = 1 := by
    rcases Nat.mod_two_eq_zero_or_one M with q | q
    · exfalso
      have : m % 2 = 0 := by rw [i1, Nat.mul_mod, q, Nat.mul_zero]
      omega
    · exact q
  have ih := rc_big M M (Nat.le_refl _) M0 M2 i2 d
  have hp := rc_pow prs5.2.1 (by decide) (a := 4) (b := 3) (by decide) (by decide) i d
  have hm := rc_mul (Nat.pow_pos (by decide)) M0 (pr_cop_pow prs5.2.1 i2 i) d
  rw [← i1] at hm
  have hm2 := Nat.mul_le_mul hm hm
  generalize rcN (3 ^ i) d = X at *
  generalize rcN M d = Y at *
  have e1 : X * Y * (X * Y) = (X * X) * (Y * Y) := by grind
  rw [e1] at hm2
  refine Nat.le_trans (Nat.mul_le_mul_left 3 hm2) ?_
  rw [← Nat.mul_assoc]
  refine Nat.le_trans (Nat.mul_le_mul hp ih) (Nat.le_of_eq ?_)
  rw [i1, Nat.mul_assoc]
/-- powers of two -/
theorem rc_two : ∀ (e : Nat) (d : Int), rcN (2 ^ e) d * rcN (2 ^ e) d ≤ 2 * 2 ^ e
  | 0, d => by
    have h := rc_zero d 2
    exact Nat.le_trans (Nat.mul_le_mul h h) (by decide)
  | 1, d => by
    have h : rcN (2 ^ 1) d ≤ 2 := by
      have := List.length_filter_le (fun x : Nat => decide (((2 ^ 1 : Nat) : Int) ∣ (x : Int) * x - d)) (List.range (2 ^ 1))
      rw [List.length_range] at this
      exact this
    exact Nat.le_trans (Nat.mul_le_mul h h) (by decide)
  | e + 2, d => by
    have hpe : 2 ^ (e + 2) = 2 * 2 * 2 ^ e := by rw [Nat.pow_add, Nat.mul_comm]
    by_cases c : ((2 : Nat) : Int) ∣ d
    · rcases rc_down prs5.1 e c with z | ⟨d', hd'⟩
      · rw [z, Nat.mul_zero]
        exact Nat.zero_le _
      · have ih := rc_two e d'
        have h3 := Nat.mul_le_mul hd' hd'
        refine Nat.le_trans h3 ?_
        rw [hpe]
        generalize rcN (2 ^ e) d' = R at *
        generalize 2 ^ e = P at *
        have e1 : 2 * R * (2 * R) = 4 * (R * R) := by grind
        omega
    · -- d odd: x odd, y = ± x, by 2^(e+1)
      have nd := rcL_nd (2 ^ (e + 2)) d
      have hmem : ∀ x, x ∈ rcL (2 ^ (e + 2)) d → x < 2 ^ (e + 2) ∧ ((2 ^ (e + 2) : Nat) : Int) ∣ (x : Int) * x - d := fun x hx => rcL_mem.1 hx
      have odd : ∀ x, x ∈ rcL (2 ^ (e + 2)) d → x % 2 = 1 := by
        intro x hx
        obtain ⟨k, hk⟩ := (hmem x hx).2
        rw [hpe] at hk
        have e1 : ((2 * 2 * 2 ^ e : Nat) : Int) = 4 * ((2 ^ e : Nat) : Int) := by
          rw [Int.natCast_mul]
          rfl
        rw [e1] at hk
        have e2 : 4 * ((2 ^ e : Nat) : Int) * k = 4 * (((2 ^ e : Nat) : Int) * k) := by grind
        rw [e2] at hk
        rcases Nat.mod_two_eq_zero_or_one x with q | q
        · exfalso
          obtain ⟨j, hj⟩ : ∃ j : Int, (x : Int) = 2 * j := ⟨(x : Int) / 2, by omega⟩
          have e3 : (x : Int) * x = 4 * (j * j) := by rw [hj]; grind
          rw [e3] at hk
          exact c ⟨2 * (j * j) - 2 * (((2 ^ e : Nat) : Int) * k), by omega⟩
        · exact q
      -- the difference of two is a multiple of 2^(e+1), or the sum
      have pm : ∀ x y, x ∈ rcL (2 ^ (e + 2)) d → y ∈ rcL (2 ^ (e + 2)) d → ((2 ^ (e + 1) : Nat) : Int) ∣ (x : Int) - y ∨ ((2 ^ (e + 1) : Nat) : Int) ∣ (x : Int) + y := by
        intro x y hx hy
        have ox := odd x hx
        have oy := odd y hy
        have dv : ((2 ^ (e + 2) : Nat) : Int) ∣ ((x : Int) - y) * ((x : Int) + y) := by
          have := Int.dvd_sub (hmem x hx).2 (hmem y hy).2
          rwa [show (x : Int) * x - d - ((y : Int) * y - d) = ((x : Int) - y) * ((x : Int) + y) by grind] at this
        obtain ⟨s, hs⟩ : ∃ s : Int, (x : Int) - y = 2 * s := ⟨((x : Int) - y) / 2, by omega⟩
        obtain ⟨r, hr⟩ : ∃ r : Int, (x : Int) + y = 2 * r := ⟨((x : Int) + y) / 2, by omega⟩
        have hsr : s % 2 ≠ r % 2 := by omega
        have dv2 : ((2 ^ e : Nat) : Int) ∣ s * r := by
          obtain ⟨k, hk⟩ := dv
          refine ⟨k, ?_⟩
          rw [hpe, hs, hr, Int.natCast_mul] at hk
          have e1 : ((2 * 2 : Nat) : Int) = 4 := rfl
          rw [e1] at hk
          have e2 : 2 * s * (2 * r) = 4 * (s * r) := by grind
          have e3 : 4 * ((2 ^ e : Nat) : Int) * k = 4 * (((2 ^ e : Nat) : Int) * k) := by grind
          omega
        have e4 : ((2 ^ (e + 1) : Nat) : Int) = 2 * ((2 ^ e : Nat) : Int) := by
          rw [Nat.pow_succ, Nat.mul_comm, Int.natCast_mul]
          rfl
        have hs2 : s % 2 = 0 ∨ s % 2 = 1 := by omega
        rcases hs2 with q | q
        · left
          have ro : ¬ 2 ∣ r.natAbs := by omega
          have cop : Nat.Coprime (2 ^ e) r.natAbs := Nat.Coprime.pow_left e (pr_cop prs5.1 ro)
          have d3 : 2 ^ e ∣ s.natAbs := by
            refine Nat.Coprime.dvd_of_dvd_mul_right cop ?_
            rw [← Int.natAbs_mul]
            exact Int.ofNat_dvd_left.1 dv2
          obtain ⟨j, hj⟩ := Int.ofNat_dvd_left.2 d3
          exact ⟨j, by rw [hs, hj, e4]; grind⟩
        · right
          have so : ¬ 2 ∣ s.natAbs := by omega
          have cop : Nat.Coprime (2 ^ e) s.natAbs := Nat.Coprime.pow_left e (pr_cop prs5.1 so)
          have d3 : 2 ^ e ∣ r.natAbs := by
            refine Nat.Coprime.dvd_of_dvd_mul_left cop ?_
            rw [← Int.natAbs_mul]
            exact Int.ofNat_dvd_left.1 dv2
          obtain ⟨j, hj⟩ := Int.ofNat_dvd_left.2 d3
          exact ⟨j, by rw [hr, hj, e4]; grind⟩
      have e5 : 2 ^ (e + 2) = 2 * 2 ^ (e + 1) := by rw [Nat.pow_succ, Nat.mul_comm]
      have H0 : 0 < 2 ^ (e + 1) := Nat.pow_pos (by decide)
      have four : rcN (2 ^ (e + 2)) d ≤ 4 := by
        unfold rcN
        have nd' := nd
        have hl : ∀ x, x ∈ rcL (2 ^ (e + 2)) d → x < 2 * 2 ^ (e + 1) := fun x hx => by
          have := (hmem x hx).1
          rwa [e5] at this
        generalize rcL (2 ^ (e + 2)) d = l at *
        generalize 2 ^ (e + 1) = H at *
        match l, nd', pm, hl with
        | [], _, _, _ => exact Nat.zero_le _
        | x :: t, nd', pm, hl =>
          have h1 := len_sub (x :: t) [x, (x + H) % (2 * H), 2 * H - x, (3 * H - x) % (2 * H)] nd' (fun y hy => by
            have hx1 := hl x (List.mem_cons_self ..)
            have hy1 := hl y hy
            simp only [List.mem_cons, List.not_mem_nil, or_false]
            rcases pm x y (List.mem_cons_self ..) hy with ⟨j, hj⟩ | ⟨j, hj⟩
            · have hj2 : j = 0 ∨ j = 1 ∨ j = -1 := by
                rcases Int.lt_trichotomy j 0 with q | q | q
                · rcases Int.lt_or_le j (-1) with q' | q'
                  · have : (H : Int) * j ≤ (H : Int) * (-2) := Int.mul_le_mul_of_nonneg_left (by omega) (by omega)
                    omega
                  · omega
                · omega
                · rcases Int.lt_or_le 1 j with q' | q'
                  · have : (H : Int) * 2 ≤ (H : Int) * j := Int.mul_le_mul_of_nonneg_left (by omega) (by omega)
                    omega
                  · omega
              rcases hj2 with rfl | rfl | rfl
              · left
                omega
              · right
                left
                have : x + H = y + 2 * H := by omega
                rw [this, Nat.add_mod_right, Nat.mod_eq_of_lt hy1]
              · right
                left
                have : x + H = y := by omega
                rw [this, Nat.mod_eq_of_lt hy1]
            · have hj2 : j = 0 ∨ j = 1 ∨ j = 2 ∨ j = 3 := by
                rcases Int.lt_or_le j 0 with q | q
                · have : (H : Int) * j ≤ (H : Int) * (-1) := Int.mul_le_mul_of_nonneg_left (by omega) (by omega)
                  omega
                · rcases Int.lt_or_le 3 j with q' | q'
                  · have : (H : Int) * 4 ≤ (H : Int) * j := Int.mul_le_mul_of_nonneg_left (by omega) (by omega)
                    omega
                  · omega
              rcases hj2 with rfl | rfl | rfl | rfl
              · left
                omega
              · right
                right
                right
                have : 3 * H - x = y + 2 * H := by omega
                rw [this, Nat.add_mod_right, Nat.mod_eq_of_lt hy1]
              · right
                right
                left
                omega
              · right
                right
                right
                have : 3 * H - x = y := by omega
                rw [this, Nat.mod_eq_of_lt hy1])
          exact h1
      rcases Nat.eq_zero_or_pos e with q | q
      · subst q
        -- mod 4: only odd ones
        have h1 := len_sub (rcL (2 ^ (0 + 2)) d) [1, 3] nd (fun x hx => by
          have := odd x hx
          have h4 := (hmem x hx).1
          have e6 : 2 ^ (0 + 2) = 4 := rfl
          rw [e6] at h4
          simp only [List.mem_cons, List.not_mem_nil, or_false]
          omega)
        have h2 : rcN (2 ^ (0 + 2)) d ≤ 2 := h1
        exact Nat.le_trans (Nat.mul_le_mul h2 h2) (by decide)
      · refine Nat.le_trans (Nat.mul_le_mul four four) ?_
        have : 2 ^ 1 ≤ 2 ^ e := Nat.pow_le_pow_right (by decide) q
        rw [hpe]
        omega
