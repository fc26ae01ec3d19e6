/-! the trials of a number -/
theorem rts_mem {d m : Int} {b : Nat} : b ∈ rtsOf d m ↔ b < 2 * m.natAbs ∧ rtD (4 * m.natAbs) d b := by
  unfold rtsOf
  rw [List.mem_filter, List.mem_range, decide_eq_true_eq]
theorem rts_nd (d m : Int) : (rtsOf d m).Nodup := List.nodup_range.filter _
/-- the roots of a number: the square of the count -/
theorem rts_cnt (d m : Int) (hm : m ≠ 0) : 3 * ((rtsOf d m).length * (rtsOf d m).length) ≤ 8 * m.natAbs := by
  have m0 : 0 < m.natAbs := by omega
  obtain ⟨e, M, i1, i2⟩ := pr_split prs5.1 m.natAbs m.natAbs (Nat.le_refl _) m0
  have M0 : 0 < M := by
    rcases Nat.eq_zero_or_pos M with q | q
    · rw [q, Nat.mul_zero] at i1
      omega
    · exact q
  have M2 : M % 2 = 1 := by omega
  have P0 : 0 < 2 ^ e := Nat.pow_pos (by decide)
  have hpe1 : 2 ^ (e + 1) = 2 * 2 ^ e := by rw [Nat.pow_succ, Nat.mul_comm]
  have hpe2 : 2 ^ (e + 2) = 2 * 2 ^ (e + 1) := by rw [Nat.pow_succ, Nat.mul_comm]
  -- roots by the power of two
  obtain ⟨T, hT⟩ : ∃ T, (List.range (2 ^ (e + 1))).filter (fun x : Nat => decide (((2 ^ (e + 2) : Nat) : Int) ∣ (x : Int) * x - d)) = T := ⟨_, rfl⟩
  have hTm : ∀ y : Nat, y ∈ T ↔ y < 2 ^ (e + 1) ∧ ((2 ^ (e + 2) : Nat) : Int) ∣ (y : Int) * y - d := by
    intro y
    rw [← hT, List.mem_filter, List.mem_range, decide_eq_true_eq]
  have hTn : T.Nodup := by
    rw [← hT]
    exact List.nodup_range.filter _
  have h1 : 2 * T.length ≤ rcN (2 ^ (e + 2)) d := by
    have := len_sub (T ++ T.map (fun y => y + 2 ^ (e + 1))) (rcL (2 ^ (e + 2)) d) (by
      rw [List.Nodup, List.pairwise_append, List.pairwise_map]
      refine ⟨hTn, hTn.imp (fun {a b} hab z => hab (by omega)), fun a ha b hb z => ?_⟩
      obtain ⟨y, hy, rfl⟩ := List.mem_map.1 hb
      have := ((hTm a).1 ha).1
      omega) (fun y hy => by
      rcases List.mem_append.1 hy with hy | hy
      · obtain ⟨y1, y2⟩ := (hTm y).1 hy
        exact rcL_mem.2 ⟨by omega, y2⟩
      · obtain ⟨z, hz, rfl⟩ := List.mem_map.1 hy
        obtain ⟨y1, k, hk⟩ := (hTm z).1 hz
        refine rcL_mem.2 ⟨by omega, ?_⟩
        have e1 : ((z + 2 ^ (e + 1) : Nat) : Int) = (z : Int) + 2 * ((2 ^ e : Nat) : Int) := by
          rw [hpe1]
          push_cast
          rfl
        have e2 : ((2 ^ (e + 2) : Nat) : Int) = 4 * ((2 ^ e : Nat) : Int) := by
          rw [hpe2, hpe1]
          push_cast
          omega
        rw [e1]
        rw [e2] at hk ⊢
        generalize ((2 ^ e : Nat) : Int) = P at *
        exact ⟨k + z + P, by grind⟩)
    rw [List.length_append, List.length_map] at this
    show 2 * T.length ≤ (rcL (2 ^ (e + 2)) d).length
    omega
  have h2 := rc_two (e + 2) d
  have h3 : T.length * T.length ≤ 2 * 2 ^ e := by
    have q := Nat.mul_le_mul h1 h1
    have q2 : 2 * T.length * (2 * T.length) = 4 * (T.length * T.length) := by grind
    rw [hpe2, hpe1] at h2 q
    omega
  have h4 := rc_odd M0 M2 d
  have cop : Nat.Coprime (2 ^ (e + 1)) M := pr_cop_pow prs5.1 i2 (e + 1)
  have h5 := cnt_mul (l := rtsOf d m) (rts_nd d m) (M := 2 ^ (e + 1)) (N := M) (Nat.pow_pos (by decide)) M0 cop (fun b hb => by
    have := (rts_mem.1 hb).1
    rw [i1] at this
    rw [hpe1, Nat.mul_assoc]
    exact this) (A := T) (B := rcL M d) (fun b hb => by
    obtain ⟨-, k, hk⟩ := rts_mem.1 hb
    refine (hTm _).2 ⟨Nat.mod_lt _ (Nat.pow_pos (by decide)), ?_⟩
    have e0 : (b : Int) = 2 * ((2 ^ e : Nat) : Int) * ((b / 2 ^ (e + 1) : Nat) : Int) + ((b % 2 ^ (e + 1) : Nat) : Int) := by
      have := Nat.div_add_mod b (2 ^ (e + 1))
      have h2 : ((2 ^ (e + 1) * (b / 2 ^ (e + 1)) + b % 2 ^ (e + 1) : Nat) : Int) = (b : Int) := by rw [this]
      rw [← h2, Int.natCast_add, Int.natCast_mul]
      congr 2
      rw [hpe1]
      push_cast
      rfl
    have e2 : ((2 ^ (e + 2) : Nat) : Int) = 4 * ((2 ^ e : Nat) : Int) := by
      rw [hpe2, hpe1]
      push_cast
      omega
    have e3 : ((4 * m.natAbs : Nat) : Int) = 4 * ((2 ^ e : Nat) : Int) * M := by
      rw [i1]
      push_cast
      grind
    rw [e2]
    rw [e3, e0] at hk
    generalize ((b / 2 ^ (e + 1) : Nat) : Int) = Q at *
    generalize ((b % 2 ^ (e + 1) : Nat) : Int) = R at *
    generalize ((2 ^ e : Nat) : Int) = P at *
    exact ⟨M * k - P * Q * Q - Q * R, by grind⟩) (fun b hb => by
    obtain ⟨-, hk⟩ := rts_mem.1 hb
    refine rcL_mem.2 ⟨Nat.mod_lt _ M0, sq_mod (Int.dvd_trans ?_ hk)⟩
    rw [i1]
    exact Int.natCast_dvd_natCast.2 ⟨4 * 2 ^ e, by grind⟩)
  have h5' : (rtsOf d m).length ≤ T.length * rcN M d := h5
  have h6 := Nat.mul_le_mul h5' h5'
  have e7 : T.length * rcN M d * (T.length * rcN M d) = (T.length * T.length) * (rcN M d * rcN M d) := by grind
  rw [e7] at h6
  have h8 : 3 * ((T.length * T.length) * (rcN M d * rcN M d)) ≤ 8 * m.natAbs := by
    have q := Nat.mul_le_mul h3 h4
    rw [i1]
    generalize T.length * T.length = X at *
    generalize rcN M d * rcN M d = Y at *
    generalize 2 ^ e = P at *
    have q1 : X * (3 * Y) = 3 * (X * Y) := by grind
    have q2 : 2 * P * (4 * M) = 8 * (P * M) := by grind
    omega
  omega
/-- the divisors whose squares go into a number -/
theorem sq_cnt {x : Nat} (hx : 0 < x ∧ x ≤ 1000000) (n : Nat) : ((List.range n).filter (fun i => decide (31 ≤ i ∧ (i + 1) * (i + 1) ∣ x))).length ≤ 31 := by
  -- the greatest one
  have hex : ∃ G, G * G ∣ x ∧ 0 < G ∧ ∀ g, g * g ∣ x → g ∣ G := by
    have bd : ∀ g, g * g ∣ x → g ≤ 1000 := by
      intro g hg
      have := Nat.le_of_dvd hx.1 hg
      rcases Nat.lt_or_ge 1000 g with z | z
      · have := Nat.mul_le_mul z z
        omega
      · exact z
    obtain ⟨m, m1, ⟨m2, m3⟩, m4⟩ := least_of (P := fun j => j ≤ 1000 ∧ (1000 - j) * (1000 - j) ∣ x) 999 ⟨by decide, by simp⟩
    have big : ∀ g, g * g ∣ x → g ≤ 1000 - m := by
      intro g hg
      have h1 := bd g hg
      rcases Nat.lt_or_ge (1000 - m) g with z | z
      · exact (m4 (1000 - g) (by omega) ⟨by omega, by rw [show 1000 - (1000 - g) = g by omega]; exact hg⟩).elim
      · exact z
    have G0 : 0 < 1000 - m := by omega
    refine ⟨1000 - m, m3, G0, fun g hg => ?_⟩
    generalize 1000 - m = G at *
    have g0 : 0 < g := by
      rcases Nat.eq_zero_or_pos g with z | z
      · rw [z, Nat.zero_mul] at hg
        have := Nat.eq_zero_of_zero_dvd hg
        omega
      · exact z
    have h0 : 0 < Nat.gcd g G := Nat.gcd_pos_of_pos_left _ g0
    obtain ⟨a, ha⟩ := Nat.gcd_dvd_left g G
    obtain ⟨b, hb⟩ := Nat.gcd_dvd_right g G
    have cop := gcd_one h0 ha hb
    generalize Nat.gcd g G = h at *
    obtain ⟨y, hy⟩ := m3
    obtain ⟨z, hz⟩ := hg
    have k1 : a * a ∣ b * b * y := by
      refine ⟨z, Nat.eq_of_mul_eq_mul_left (Nat.mul_pos h0 h0) ?_⟩
      have : G * G * y = g * g * z := hy.symm.trans hz
      rw [ha, hb] at this
      have e1 : h * h * (b * b * y) = h * b * (h * b) * y := by grind
      have e2 : h * h * (a * a * z) = h * a * (h * a) * z := by grind
      rw [e1, e2, this]
    have cop2 : Nat.Coprime (a * a) (b * b) := Nat.Coprime.mul_left (Nat.Coprime.mul_right cop cop) (Nat.Coprime.mul_right cop cop)
    have k2 : a * a ∣ y := Nat.Coprime.dvd_of_dvd_mul_left cop2 k1
    obtain ⟨c, hc⟩ := k2
    have k3 := big (G * a) ⟨c, by rw [hy, hc]; grind⟩
    have a1 : a = 1 := by
      have a0 : 0 < a := by
        rcases Nat.eq_zero_or_pos a with q | q
        · rw [q, Nat.mul_zero] at ha
          omega
        · exact q
      rcases Nat.lt_or_ge 1 a with q | q
      · have : G * 2 ≤ G * a := Nat.mul_le_mul_left G q
        omega
      · omega
    rw [a1, Nat.mul_one] at ha
    exact ⟨b, by rw [ha]; exact hb⟩
  obtain ⟨G, G1, G0, G2⟩ := hex
  have G3 : G ≤ 1000 := by
    have := Nat.le_of_dvd hx.1 G1
    rcases Nat.lt_or_ge 1000 G with z | z
    · have := Nat.mul_le_mul z z
      omega
    · exact z
  have mem : ∀ i, i ∈ (List.range n).filter (fun i => decide (31 ≤ i ∧ (i + 1) * (i + 1) ∣ x)) → 31 ≤ i ∧ (i + 1) ∣ G := by
    intro i hi
    have := (List.mem_filter.1 hi).2
    rw [decide_eq_true_eq] at this
    exact ⟨this.1, G2 _ this.2⟩
  have h := len_sub (((List.range n).filter (fun i => decide (31 ≤ i ∧ (i + 1) * (i + 1) ∣ x))).map (fun i => G / (i + 1) - 1)) (List.range 31) (by
    rw [List.Nodup, List.pairwise_map]
    refine List.Pairwise.imp_of_mem ?_ (List.nodup_range.filter _)
    intro i j hi hj hne z
    obtain ⟨a, ha⟩ := (mem i hi).2
    obtain ⟨b, hb⟩ := (mem j hj).2
    rw [show G / (i + 1) = a by rw [ha, Nat.mul_div_cancel_left _ (by omega)], show G / (j + 1) = b by rw [hb, Nat.mul_div_cancel_left _ (by omega)]] at z
    have a0 : 0 < a := by
      rcases Nat.eq_zero_or_pos a with q | q
      · rw [q, Nat.mul_zero] at ha
        omega
      · exact q
    have b0 : 0 < b := by
      rcases Nat.eq_zero_or_pos b with q | q
      · rw [q, Nat.mul_zero] at hb
        omega
      · exact q
    have ab : a = b := by omega
    rw [ab] at ha
    have := Nat.eq_of_mul_eq_mul_right b0 (ha.symm.trans hb)
    omega) (fun y hy => by
    obtain ⟨i, hi, rfl⟩ := List.mem_map.1 hy
    obtain ⟨h31, a, ha⟩ := mem i hi
    rw [show G / (i + 1) = a by rw [ha, Nat.mul_div_cancel_left _ (by omega)], List.mem_range]
    rcases Nat.lt_or_ge 31 a with q | q
    · have := Nat.mul_le_mul (show 32 ≤ i + 1 by omega) q
      omega
    · omega)
  rw [List.length_map, List.length_range] at h
  exact h
def sg31 : Nat → Nat
  | 0 => 0
  | n + 1 => sg31 n + (if n + 1 ≤ 31 then 1632 / (n + 1) else 0)
theorem sg31_le : ∀ n, sg31 n ≤ 6562 := by
  have up : ∀ k, sg31 (31 + k) = sg31 31 := by
    intro k
    induction k with
    | zero => rfl
    | succ k ih =>
      show sg31 (31 + k) + (if 31 + k + 1 ≤ 31 then 1632 / (31 + k + 1) else 0) = sg31 31
      rw [if_neg (by omega), ih, Nat.add_zero]
  have mono : ∀ n k, sg31 n ≤ sg31 (n + k) := by
    intro n k
    induction k with
    | zero => exact Nat.le_refl _
    | succ k ih => exact Nat.le_trans ih (Nat.le_add_right _ _)
  have e : sg31 31 = 6562 := by decide +kernel
  intro n
  have h1 := mono n 31
  have h2 := up n
  rw [Nat.add_comm] at h2
  omega
theorem cnt_suc (x n : Nat) : ((List.range (n + 1)).filter (fun i => decide (31 ≤ i ∧ (i + 1) * (i + 1) ∣ x))).length = ((List.range n).filter (fun i => decide (31 ≤ i ∧ (i + 1) * (i + 1) ∣ x))).length + (if 31 ≤ n ∧ (n + 1) * (n + 1) ∣ x then 1 else 0) := by
  rw [List.range_succ, List.filter_append, List.length_append]
  congr 1
  by_cases c : 31 ≤ n ∧ (n + 1) * (n + 1) ∣ x
  · rw [if_pos c, List.filter_cons_of_pos (by simpa using c)]
    rfl
  · rw [if_neg c, List.filter_cons_of_neg (by simpa using c)]
    rfl
theorem sq_dv {x : Int} {g : Nat} (h : x.tmod ((g * g : Nat) : Int) = 0) : x = x.tdiv ((g * g : Nat) : Int) * (g * g : Nat) ∧ x.natAbs = (x.tdiv ((g * g : Nat) : Int)).natAbs * (g * g) := by
  have e := Int.tdiv_mul_cancel (Int.dvd_of_tmod_eq_zero h)
  refine ⟨e.symm, ?_⟩
  conv => lhs; rw [← e]
  rw [Int.natAbs_mul, Int.natAbs_natCast]
theorem trS_len (d w : Int) {x : Int} (hx : x ≠ 0 ∧ x.natAbs ≤ 1000000) (n : Nat) : (trS d w x (n + 1)).length ≤ (if n + 1 ≤ 31 then 1632 / (n + 1) else 0) + 51 * (if 31 ≤ n ∧ (n + 1) * (n + 1) ∣ x.natAbs then 1 else 0) := by
  unfold trS
  split
  · rename_i c
    obtain ⟨c1, -⟩ := c
    obtain ⟨e1, e2⟩ := sq_dv c1
    have m0 : x.tdiv (((n + 1) * (n + 1) : Nat) : Int) ≠ 0 := fun z => by
      rw [z, Int.zero_mul] at e1
      exact hx.1 e1
    have h1 := rts_cnt d (x.tdiv (((n + 1) * (n + 1) : Nat) : Int)) m0
    have h2 : (trB d w ((n + 1 : Nat) : Int) (x.tdiv (((n + 1) * (n + 1) : Nat) : Int)) (rtsOf d (x.tdiv (((n + 1) * (n + 1) : Nat) : Int)))).length ≤ (rtsOf d (x.tdiv (((n + 1) * (n + 1) : Nat) : Int))).length := by
      unfold trB
      rw [List.length_map]
      exact List.length_filter_le _ _
    refine Nat.le_trans h2 ?_
    generalize (rtsOf d (x.tdiv (((n + 1) * (n + 1) : Nat) : Int))).length = L at *
    generalize (x.tdiv (((n + 1) * (n + 1) : Nat) : Int)).natAbs = m at *
    have h3 : L * (n + 1) ≤ 1632 := by
      rcases Nat.lt_or_ge 1632 (L * (n + 1)) with z | z
      · exfalso
        have q := Nat.mul_le_mul z z
        have q1 : L * (n + 1) * (L * (n + 1)) = (L * L) * ((n + 1) * (n + 1)) := by grind
        have q2 : 3 * (L * L) * ((n + 1) * (n + 1)) ≤ 8 * m * ((n + 1) * (n + 1)) := Nat.mul_le_mul_right _ h1
        have q3 : 8 * m * ((n + 1) * (n + 1)) = 8 * x.natAbs := by rw [e2]; grind
        have q4 : 3 * (L * L) * ((n + 1) * (n + 1)) = 3 * ((L * L) * ((n + 1) * (n + 1))) := by grind
        rw [q1] at q
        omega
      · exact z
    have h4 : L ≤ 1632 / (n + 1) := (Nat.le_div_iff_mul_le (by omega)).2 h3
    have dv : (n + 1) * (n + 1) ∣ x.natAbs := ⟨m, by rw [e2, Nat.mul_comm]⟩
    by_cases c : n + 1 ≤ 31
    · rw [if_pos c]
      omega
    · rw [if_neg c, if_pos ⟨by omega, dv⟩]
      have : 1632 / (n + 1) ≤ 1632 / 32 := Nat.div_le_div_left (by omega) (by decide)
      omega
  · exact Nat.zero_le _
theorem trA_lenB (d w : Int) {x : Int} (hx : x ≠ 0 ∧ x.natAbs ≤ 1000000) : ∀ n, (trA d w x n).length ≤ sg31 n + 51 * ((List.range n).filter (fun i => decide (31 ≤ i ∧ (i + 1) * (i + 1) ∣ x.natAbs))).length
  | 0 => Nat.zero_le _
  | n + 1 => by
    have ih := trA_lenB d w hx n
    have h := trS_len d w hx n
    show (trA d w x n ++ trS d w x (n + 1)).length ≤ sg31 n + (if n + 1 ≤ 31 then 1632 / (n + 1) else 0) + _
    rw [List.length_append, cnt_suc]
    omega
theorem tAll_len (d w : Int) {x : Int} (hx : inQ x) : (tAll d w x).length ≤ 8192 := by
  obtain ⟨x0, x1, x2⟩ := hx
  have h := trA_lenB d w (x := x) ⟨x0, by omega⟩ x.natAbs
  have h1 := sg31_le x.natAbs
  have h2 := sq_cnt (x := x.natAbs) ⟨by omega, by omega⟩ x.natAbs
  unfold tAll
  omega
/-- a trial -/
def isTrl (d x : Int) (g b : Nat) : Prop := 0 < g ∧ x.tmod ((g * g : Nat) : Int) = 0 ∧ ¬ (d < 0 ∧ x < 0) ∧ b ∈ rtsOf d (x.tdiv ((g * g : Nat) : Int)) ∧ cpF (frmO d (x.tdiv ((g * g : Nat) : Int)) b) = true
theorem trA_mem {d w x : Int} {t : Tr} : ∀ n, t ∈ trA d w x n ↔ ∃ g b, g ≤ n ∧ isTrl d x g b ∧ t = rc1 d w g (x.tdiv ((g * g : Nat) : Int)) b
  | 0 => by
    constructor
    · intro h
      cases h
    · rintro ⟨g, b, h1, h2, -⟩
      have := h2.1
      omega
  | n + 1 => by
    show t ∈ trA d w x n ++ trS d w x (n + 1) ↔ _
    rw [List.mem_append, trA_mem n]
    constructor
    · rintro (⟨g, b, h1, h2⟩ | h)
      · exact ⟨g, b, by omega, h2⟩
      · unfold trS at h
        split at h
        · rename_i c
          unfold trB at h
          obtain ⟨b, hb, rfl⟩ := List.mem_map.1 h
          obtain ⟨b1, b2⟩ := List.mem_filter.1 hb
          exact ⟨n + 1, b, Nat.le_refl _, ⟨by omega, c.1, c.2, b1, b2⟩, rfl⟩
        · cases h
    · rintro ⟨g, b, h1, h2, h3⟩
      by_cases c : g = n + 1
      · right
        subst c
        obtain ⟨i1, i2, i3, i4, i5⟩ := h2
        unfold trS
        rw [if_pos ⟨i2, i3⟩]
        unfold trB
        exact List.mem_map.2 ⟨b, List.mem_filter.2 ⟨i4, i5⟩, h3.symm⟩
      · exact Or.inl ⟨g, b, by omega, h2, h3⟩
theorem tl_le {d x : Int} {g b : Nat} (hx : x ≠ 0) (h : isTrl d x g b) : g * g ≤ x.natAbs ∧ x.tdiv ((g * g : Nat) : Int) ≠ 0 ∧ (d < 0 → 0 < x.tdiv ((g * g : Nat) : Int)) := by
  obtain ⟨e1, e2⟩ := sq_dv h.2.1
  have m0 : x.tdiv ((g * g : Nat) : Int) ≠ 0 := fun z => by
    rw [z, Int.zero_mul] at e1
    exact hx e1
  have h3 : 1 * (g * g) ≤ (x.tdiv ((g * g : Nat) : Int)).natAbs * (g * g) := Nat.mul_le_mul_right _ (by omega)
  refine ⟨by omega, m0, fun hd => ?_⟩
  have x0 : 0 < x := by
    have := h.2.2.1
    omega
  have gg : (0 : Int) < ((g * g : Nat) : Int) := by
    have := Nat.mul_pos h.1 h.1
    omega
  rcases Int.lt_or_le 0 (x.tdiv ((g * g : Nat) : Int)) with z | z
  · exact z
  · have := Int.mul_nonpos_of_nonpos_of_nonneg z (Int.le_of_lt gg)
    omega
theorem tAll_mem {d w x : Int} (hx : x ≠ 0) {t : Tr} : t ∈ tAll d w x ↔ ∃ g b, isTrl d x g b ∧ t = rc1 d w g (x.tdiv ((g * g : Nat) : Int)) b := by
  unfold tAll
  rw [trA_mem]
  constructor
  · rintro ⟨g, b, -, h⟩
    exact ⟨g, b, h⟩
  · rintro ⟨g, b, h, h'⟩
    refine ⟨g, b, ?_, h, h'⟩
    have := (tl_le hx h).1
    have := h.1
    have : g * 1 ≤ g * g := Nat.mul_le_mul_left g (by omega)
    omega
/-- the form of a trial -/
theorem frm_vld {d m : Int} {b : Nat} (hm : m ≠ 0) (hr : rtD (4 * m.natAbs) d b) (hc : cpF (frmO d m b) = true) (hp : d < 0 → 0 < m) : Vld d (frmO d m b) ∧ 4 * m * (frmO d m b).2.2 = (b : Int) * b - d := by
  have h4 : (4 * m) ∣ (b : Int) * b - d := by
    obtain ⟨k, hk⟩ := hr
    have e : ((4 * m.natAbs : Nat) : Int) = 4 * (m.natAbs : Int) := by omega
    rw [e] at hk
    rcases Int.natAbs_eq m with z | z
    · exact ⟨k, by rw [hk, ← z]⟩
    · have z' : (m.natAbs : Int) = -m := by omega
      exact ⟨-k, by rw [hk, z']; grind⟩
  have e : 4 * m * (frmO d m b).2.2 = (b : Int) * b - d := Int.mul_tdiv_cancel' h4
  refine ⟨⟨?_, ?_, hp⟩, e⟩
  · show (b : Int) * b - 4 * m * (frmO d m b).2.2 = d
    omega
  · unfold cpF at hc
    rw [decide_eq_true_eq] at hc
    exact (prim_iff _).2 hc
theorem frm_cf {d m : Int} {b : Nat} (hdb : -1048576 ≤ d ∧ d ≤ 1048576) (hm : m ≠ 0 ∧ m.natAbs ≤ 1000000) (hb : b < 2 * m.natAbs) (e : 4 * m * (frmO d m b).2.2 = (b : Int) * b - d) : cfB (frmO d m b) 2097152 := by
  refine ⟨?_, ?_, ?_⟩
  · show m.natAbs ≤ 2097152
    omega
  · show ((b : Nat) : Int).natAbs ≤ 2097152
    omega
  · generalize (frmO d m b).2.2 = c at *
    have e1 : (4 * m * c).natAbs = 4 * (m.natAbs * c.natAbs) := by
      rw [Int.natAbs_mul, Int.natAbs_mul, Nat.mul_assoc]
      rfl
    have e2 : ((b : Int) * b - d).natAbs ≤ b * b + 1048576 := by
      have : ((b : Int) * b).natAbs = b * b := by rw [Int.natAbs_mul, Int.natAbs_natCast]
      have h := Int.natAbs_sub_le ((b : Int) * b) d
      omega
    rw [← e, e1] at e2
    have e3 : b * b ≤ (2 * m.natAbs) * b := Nat.mul_le_mul_right b (by omega)
    have e4 : (2 * m.natAbs) * b ≤ (2 * m.natAbs) * (2000000) := Nat.mul_le_mul_left _ (by omega)
    have e5 : 1048576 * 1 ≤ 1048576 * m.natAbs := Nat.mul_le_mul_left _ (by omega)
    have e6 : m.natAbs * (4 * c.natAbs) ≤ m.natAbs * 5048576 := by
      have q1 : m.natAbs * (4 * c.natAbs) = 4 * (m.natAbs * c.natAbs) := by grind
      have q2 : (2 * m.natAbs) * 2000000 = m.natAbs * 4000000 := by grind
      omega
    have := Nat.le_of_mul_le_mul_left e6 (by omega)
    omega
theorem trm_uniq {d w : Int} {f : Fm} {m n : Nat} (h : trm d w m f) (h' : trm d w n f) : m = n := by
  have key : ∀ m n, m < n → trm d w m f → trm d w n f → False := by
    intro m n hmn h h'
    have h1 := (trm_rd m f h).2
    have h2 := trm_first n f h' m hmn
    rw [h1] at h2
    cases h2
  rcases Nat.lt_trichotomy m n with z | z | z
  · exact (key m n z h h').elim
  · exact z
  · exact (key n m z h' h).elim
/-- ALL OF A TRIAL -/
theorem trial_all {d w : Int} (hn : nsq d) (hdb : -1048576 ≤ d ∧ d ≤ 1048576) (hw : wdP d w) (hw4 : w ≤ 1024) {x : Int} (hx : inQ x) {g b : Nat} (h : isTrl d x g b) : Vld d (frmO d (x.tdiv ((g * g : Nat) : Int)) b) ∧ trm d w (lnF d w (frmO d (x.tdiv ((g * g : Nat) : Int)) b)) (frmO d (x.tdiv ((g * g : Nat) : Int)) b) ∧ (∀ i, cfB (itF d w i (frmO d (x.tdiv ((g * g : Nat) : Int)) b)) 2097152) ∧ (∀ i, i ≤ lnF d w (frmO d (x.tdiv ((g * g : Nat) : Int)) b) → bdE (itM d w i (frmO d (x.tdiv ((g * g : Nat) : Int)) b) I2) 34359738368) := by
  obtain ⟨x0, x1, x2⟩ := hx
  obtain ⟨l1, l2, l3⟩ := tl_le x0 h
  obtain ⟨e1, e2⟩ := sq_dv h.2.1
  have hb := rts_mem.1 h.2.2.2.1
  obtain ⟨hV, he⟩ := frm_vld l2 hb.2 h.2.2.2.2 l3
  have hm : (x.tdiv ((g * g : Nat) : Int)).natAbs ≤ 1000000 := by
    have gg := Nat.mul_pos h.1 h.1
    have : (x.tdiv ((g * g : Nat) : Int)).natAbs * 1 ≤ (x.tdiv ((g * g : Nat) : Int)).natAbs * (g * g) := Nat.mul_le_mul_left _ gg
    omega
  have cf := frm_cf hdb ⟨l2, hm⟩ hb.1 he
  obtain ⟨e, a1, a2, a3, a4, a5, a6⟩ := walk hn hdb hw hw4 hV (H := 2097152) ⟨by decide, by decide⟩ cf
  have hl : trm d w (lnF d w (frmO d (x.tdiv ((g * g : Nat) : Int)) b)) (frmO d (x.tdiv ((g * g : Nat) : Int)) b) := Classical.epsilon_spec (p := fun n => trm d w n (frmO d (x.tdiv ((g * g : Nat) : Int)) b)) ⟨e, a2⟩
  have := trm_uniq hl a2
  refine ⟨hV, hl, a4, ?_⟩
  rw [this]
  exact a5
theorem okT_of {d w : Int} (hn : nsq d) (hdb : -1048576 ≤ d ∧ d ≤ 1048576) (hw : wdP d w) (hw4 : w ≤ 1024) {x : Int} (hx : inQ x) : okT d w x := by
  refine ⟨tAll_len d w hx, fun g b h1 h2 h3 h4 h5 => ?_⟩
  exact ⟨_, (trial_all hn hdb hw hw4 hx ⟨h1, h2, h3, h4, h5⟩).2.1⟩
