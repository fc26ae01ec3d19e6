/-! two rows of roots become one -/
abbrev rtD (N : Nat) (d : Int) (x : Nat) : Prop := (N : Int) ∣ (x : Int) * x - d
def crt (M q : Nat) (v : Int) (x l : Nat) : Nat := ((x : Int) + M * (((l : Int) - x) % q * v % q)).toNat
theorem crt_ok {M q : Nat} {v : Int} {x l : Nat} (hM : 0 < M) (hq : 0 < q) (hv : (q : Int) ∣ ((M % q : Nat) : Int) * v - 1) (hx : x < M) (hl : l < q) : (crt M q v x l : Int) = (x : Int) + M * (((l : Int) - x) % q * v % q) ∧ crt M q v x l < M * q ∧ crt M q v x l % M = x ∧ crt M q v x l % q = l := by
  have t0 : 0 ≤ ((l : Int) - x) % q * v % q := Int.emod_nonneg _ (by omega)
  have t1 : ((l : Int) - x) % q * v % q < q := Int.emod_lt_of_pos _ (by omega)
  have e0 := Int.emod_add_mul_ediv (((l : Int) - x) % q * v) q
  have e1 := Int.emod_add_mul_ediv ((l : Int) - x) q
  unfold crt
  generalize ((l : Int) - x) % q * v / q = z0 at *
  generalize ((l : Int) - x) % q * v % q = t at *
  generalize ((l : Int) - x) % q = w at *
  generalize ((l : Int) - x) / q = z1 at *
  obtain ⟨t, rfl⟩ : ∃ t' : Nat, t = t' := ⟨t.toNat, by omega⟩
  have ez : ((x : Int) + M * (t : Int)) = ((x + M * t : Nat) : Int) := by rw [Int.natCast_add, Int.natCast_mul]
  rw [ez, Int.toNat_natCast]
  refine ⟨rfl, ?_, ?_, ?_⟩
  · have h1 : M * (t + 1) ≤ M * q := Nat.mul_le_mul_left _ (by omega)
    rw [Nat.mul_add] at h1
    omega
  · rw [Nat.add_mul_mod_self_left, Nat.mod_eq_of_lt hx]
  · rw [← Nat.mod_eq_of_lt hl]
    rw [Nat.mod_eq_of_lt hl]
    have h2 : (x + M * t) % q = l % q := by
      refine mod_same.1 ?_
      obtain ⟨y, hy⟩ := hv
      have e2 := Nat.mod_add_div M q
      have e3 : (M : Int) = ((M % q : Nat) : Int) + q * ((M / q : Nat) : Int) := by
        rw [← Int.natCast_mul, ← Int.natCast_add, e2]
      rw [← ez, e3]
      generalize ((M % q : Nat) : Int) = m1 at *
      generalize ((M / q : Nat) : Int) = m2 at *
      have e4 : (t : Int) = w * v - q * z0 := by omega
      have e5 : w = (l : Int) - x - q * z1 := by omega
      rw [e4]
      refine ⟨w * y - z1 - m1 * z0 + m2 * (w * v - q * z0), ?_⟩
      have e6 : m1 * v = 1 + q * y := by omega
      have e7 : (x : Int) + (m1 + q * m2) * (w * v - q * z0) - l = x + w * (m1 * v) - q * (m1 * z0) + q * (m2 * (w * v - q * z0)) - l := by grind
      rw [e7, e6]
      grind
    rw [h2, Nat.mod_eq_of_lt hl]
theorem crt_one {M q z z' : Nat} (hc : Nat.gcd M q = 1) (hz : z < M * q) (hz' : z' < M * q) (h1 : z % M = z' % M) (h2 : z % q = z' % q) : z = z' := by
  have a1 := Int.natAbs_dvd_natAbs.2 (mod_same.2 h1)
  have a2 := Int.natAbs_dvd_natAbs.2 (mod_same.2 h2)
  rw [Int.natAbs_natCast] at a1 a2
  have a3 := Nat.Coprime.mul_dvd_of_dvd_of_dvd hc a1 a2
  rcases Nat.lt_or_ge 0 ((z : Int) - z').natAbs with g | g
  · have := Nat.le_of_dvd g a3
    omega
  · omega
def jnF (M q : Nat) (v : Int) (A ls : List Nat) : List Nat := A.flatMap (fun x => ls.map (crt M q v x))
theorem jn_row {M q : Nat} {v : Int} (hM : 0 < M) (hq : 0 < q) (hv : (q : Int) ∣ ((M % q : Nat) : Int) * v - 1) {x : Nat} (hx : x < M) : ∀ ls : List Nat, ls.Nodup → (∀ l, l ∈ ls → l < q) → (ls.map (crt M q v x)).Nodup
  | [], _, _ => List.nodup_nil
  | l :: t, hn, hl => by
    rw [List.map_cons, List.nodup_cons]
    rw [List.nodup_cons] at hn
    refine ⟨fun z => ?_, jn_row hM hq hv hx t hn.2 (fun l hl' => hl l (List.mem_cons_of_mem _ hl'))⟩
    obtain ⟨l', h1, h2⟩ := List.mem_map.1 z
    have b1 := (crt_ok hM hq hv hx (hl l (List.mem_cons_self ..))).2.2.2
    have b2 := (crt_ok hM hq hv hx (hl l' (List.mem_cons_of_mem _ h1))).2.2.2
    rw [h2, b1] at b2
    subst b2
    exact hn.1 h1
theorem jn_nodup {M q : Nat} {v : Int} (hM : 0 < M) (hq : 0 < q) (hv : (q : Int) ∣ ((M % q : Nat) : Int) * v - 1) {ls : List Nat} (hn : ls.Nodup) (hl : ∀ l, l ∈ ls → l < q) : ∀ A : List Nat, A.Nodup → (∀ x, x ∈ A → x < M) → (jnF M q v A ls).Nodup
  | [], _, _ => List.nodup_nil
  | x :: t, hA, hx => by
    have e : jnF M q v (x :: t) ls = ls.map (crt M q v x) ++ jnF M q v t ls := rfl
    rw [e, List.nodup_append]
    rw [List.nodup_cons] at hA
    refine ⟨jn_row hM hq hv (hx x (List.mem_cons_self ..)) ls hn hl, jn_nodup hM hq hv hn hl t hA.2 (fun y hy => hx y (List.mem_cons_of_mem _ hy)), ?_⟩
    intro z hz z' hz' ee
    subst ee
    obtain ⟨l, h1, h2⟩ := List.mem_map.1 hz
    obtain ⟨y, h3, h4⟩ := List.mem_flatMap.1 hz'
    obtain ⟨l', h5, h6⟩ := List.mem_map.1 h4
    have b1 := (crt_ok hM hq hv (hx x (List.mem_cons_self ..)) (hl l h1)).2.2.1
    have b2 := (crt_ok hM hq hv (hx y (List.mem_cons_of_mem _ h3)) (hl l' h5)).2.2.1
    rw [h2] at b1
    rw [h6, b1] at b2
    subst b2
    exact hA.1 h3
theorem jn_len (M q : Nat) (v : Int) (ls : List Nat) : ∀ A : List Nat, (jnF M q v A ls).length = A.length * ls.length
  | [] => by
    show 0 = 0 * _
    rw [Nat.zero_mul]
  | x :: t => by
    have e : jnF M q v (x :: t) ls = ls.map (crt M q v x) ++ jnF M q v t ls := rfl
    rw [e, List.length_append, List.length_map, jn_len M q v ls t, List.length_cons, Nat.add_mul, Nat.one_mul, Nat.add_comm]
theorem rtD_mod {N : Nat} {d : Int} {x y : Nat} (h : x % N = y % N) : rtD N d x ↔ rtD N d y := by
  have h1 := mod_same.2 h
  obtain ⟨k, hk⟩ := h1
  have h2 : (N : Int) ∣ (x : Int) * x - (y : Int) * y := ⟨k * (x + y), by
    have : (x : Int) * x - (y : Int) * y = (x - y) * (x + y) := by grind
    rw [this, hk, Int.mul_assoc]⟩
  constructor
  · intro z
    have := Int.dvd_sub z h2
    have e : (x : Int) * x - d - ((x : Int) * x - (y : Int) * y) = (y : Int) * y - d := by omega
    rwa [e] at this
  · intro z
    have := Int.dvd_add z h2
    have e : (y : Int) * y - d + ((x : Int) * x - (y : Int) * y) = (x : Int) * x - d := by omega
    rwa [e] at this
theorem dvd_two {M q : Nat} (hc : Nat.gcd M q = 1) {z : Int} : ((M * q : Nat) : Int) ∣ z ↔ (M : Int) ∣ z ∧ (q : Int) ∣ z := by
  constructor
  · intro h
    exact ⟨Int.dvd_trans (Int.natCast_dvd_natCast.2 ⟨q, rfl⟩) h, Int.dvd_trans (Int.natCast_dvd_natCast.2 ⟨M, Nat.mul_comm ..⟩) h⟩
  · rintro ⟨a, b⟩
    have a1 := Int.natAbs_dvd_natAbs.2 a
    have a2 := Int.natAbs_dvd_natAbs.2 b
    rw [Int.natAbs_natCast] at a1 a2
    have a3 := Nat.Coprime.mul_dvd_of_dvd_of_dvd hc a1 a2
    exact Int.natAbs_dvd_natAbs.1 (by rw [Int.natAbs_natCast]; exact a3)
theorem jn_rt {M q : Nat} {v d : Int} {A ls : List Nat} (hM : 0 < M) (hq : 0 < q) (hc : Nat.gcd M q = 1) (hv : (q : Int) ∣ ((M % q : Nat) : Int) * v - 1) (a : RtQ M (rtD M d) A) (b : RtQ q (rtD q d) ls) : RtQ (M * q) (rtD (M * q) d) (jnF M q v A ls) := by
  refine ⟨jn_nodup hM hq hv b.1 (fun l hl => ((b.2 l).1 hl).1) A a.1 (fun x hx => ((a.2 x).1 hx).1), fun z => ?_⟩
  constructor
  · intro hz
    obtain ⟨x, h1, h2⟩ := List.mem_flatMap.1 hz
    obtain ⟨l, h3, h4⟩ := List.mem_map.1 h2
    obtain ⟨x1, x2⟩ := (a.2 x).1 h1
    obtain ⟨l1, l2⟩ := (b.2 l).1 h3
    obtain ⟨_, k1, k2, k3⟩ := crt_ok hM hq hv x1 l1
    rw [h4] at k1 k2 k3
    refine ⟨k1, (dvd_two hc).2 ⟨?_, ?_⟩⟩
    · exact (rtD_mod (N := M) (x := z) (y := x) (by rw [k2, Nat.mod_eq_of_lt x1])).2 x2
    · exact (rtD_mod (N := q) (x := z) (y := l) (by rw [k3, Nat.mod_eq_of_lt l1])).2 l2
  · rintro ⟨z1, z2⟩
    obtain ⟨d1, d2⟩ := (dvd_two hc).1 z2
    have hx := Nat.mod_lt z hM
    have hl := Nat.mod_lt z hq
    have m1 : z % M ∈ A := (a.2 _).2 ⟨hx, (rtD_mod (N := M) (x := z % M) (y := z) (Nat.mod_mod z M)).2 d1⟩
    have m2 : z % q ∈ ls := (b.2 _).2 ⟨hl, (rtD_mod (N := q) (x := z % q) (y := z) (Nat.mod_mod z q)).2 d2⟩
    obtain ⟨_, k1, k2, k3⟩ := crt_ok hM hq hv hx hl
    refine List.mem_flatMap.2 ⟨z % M, m1, List.mem_map.2 ⟨z % q, m2, ?_⟩⟩
    exact crt_one hc k1 z1 k2 k3
