/-! the unit is smaller than 2 ^ 15700 -/
theorem pL_app : ∀ (l : List (Nat × Int)) (z : Nat × Int), pL (l ++ [z]) = pL l * z.1
  | [], z => by show z.1 * 1 = 1 * z.1; omega
  | x :: t, z => by
    show x.1 * pL (t ++ [z]) = x.1 * pL t * z.1
    rw [pL_app t z, Nat.mul_assoc]
theorem two_pw (n : Nat) : 2 * 2 ^ n = 2 ^ (n + 1) := by rw [Nat.pow_succ, Nat.mul_comm]
theorem pow16 {x k : Nat} (h : x ^ 16 ≤ 2 ^ (16 * k)) : x ≤ 2 ^ k := by
  rw [Nat.mul_comm, Nat.pow_mul] at h
  exact (Nat.pow_le_pow_iff_left (by decide)).1 h
theorem no3 {d x y : Int} (h : x * x - d * (y * y) = -4) : ¬ (3 : Int) ∣ d := by
  rintro ⟨k, rfl⟩
  have e : 3 * k * (y * y) = 3 * (k * (y * y)) := by grind
  rw [e] at h
  have e2 : x * x % 3 = (x % 3) * (x % 3) % 3 := Int.mul_emod _ _ _
  have : x % 3 = 0 ∨ x % 3 = 1 ∨ x % 3 = 2 := by omega
  rcases this with z | z | z <;> (rw [z] at e2; omega)
theorem no7 {d x y : Int} (h : x * x - d * (y * y) = -4) : ¬ (7 : Int) ∣ d := by
  rintro ⟨k, rfl⟩
  have e : 7 * k * (y * y) = 7 * (k * (y * y)) := by grind
  rw [e] at h
  have e2 : x * x % 7 = (x % 7) * (x % 7) % 7 := Int.mul_emod _ _ _
  have : x % 7 = 0 ∨ x % 7 = 1 ∨ x % 7 = 2 ∨ x % 7 = 3 ∨ x % 7 = 4 ∨ x % 7 = 5 ∨ x % 7 = 6 := by omega
  rcases this with z | z | z | z | z | z | z <;> (rw [z] at e2; omega)
theorem no16 {d x y : Int} (h : x * x - d * (y * y) = -4) : ¬ (16 : Int) ∣ d := by
  rintro ⟨k, rfl⟩
  have e : 16 * k * (y * y) = 16 * (k * (y * y)) := by grind
  rw [e] at h
  have e2 : x * x % 16 = (x % 16) * (x % 16) % 16 := Int.mul_emod _ _ _
  have : x % 16 = 0 ∨ x % 16 = 1 ∨ x % 16 = 2 ∨ x % 16 = 3 ∨ x % 16 = 4 ∨ x % 16 = 5 ∨ x % 16 = 6 ∨ x % 16 = 7 ∨ x % 16 = 8 ∨ x % 16 = 9 ∨ x % 16 = 10 ∨ x % 16 = 11 ∨ x % 16 = 12 ∨ x % 16 = 13 ∨ x % 16 = 14 ∨ x % 16 = 15 := by omega
  rcases this with z | z | z | z | z | z | z | z | z | z | z | z | z | z | z | z <;> (rw [z] at e2; omega)
section
theorem w_1023 {d w : Int} (hn : nsq d) (hdd : isDd d) (hd0 : 0 < d) (hdb : d ≤ 1048576) (hw : isWd d w) : w ≤ 1023 := by
  have h := hn 1024
  obtain ⟨w0, w1, w2⟩ := hw
  rcases Int.lt_or_le 1023 w with z | z
  · have := sq_le (x := 1024) (y := w) (by decide) (by omega)
    omega
  · exact z
theorem itF_inj {d w : Int} (hn : nsq d) (hd0 : 0 < d) (hw : isWd d w) : ∀ (i : Nat) (f g : Fm), dF f = d → Red f → dF g = d → Red g → itF d w i f = itF d w i g → f = g
  | 0, _, _, _, _, _, _, h => h
  | i + 1, f, g, D, R, D', R', h => by
    have := itF_inj hn hd0 hw i (nx d w f) (nx d w g) (nx_d D (nsq_3 hn D)) (nx_red hn hd0 hw D R) (nx_d D' (nsq_3 hn D')) (nx_red hn hd0 hw D' R') h
    exact nx_inj hn hd0 hw D D' R R' this
/-- forms with the same middle and the same size of the last number -/
theorem same_bc {d w : Int} (hn : nsq d) (hd0 : 0 < d) (hw : isWd d w) {f g : Fm} (D : dF f = d) (D' : dF g = d) (R : Red f) (R' : Red g) (hb : f.2.1 = g.2.1) (hc : f.2.2.natAbs = g.2.2.natAbs) : f = g ∨ f = ngF g := by
  have c0 := nsq_3 hn D
  obtain ⟨a, b, c⟩ := f
  obtain ⟨a', b', c'⟩ := g
  have hb' : b = b' := hb
  subst hb'
  have D1 : b * b - 4 * a * c = d := D
  have D2 : b * b - 4 * a' * c' = d := D'
  have hc' : c.natAbs = c'.natAbs := hc
  have c0' : c ≠ 0 := c0
  have : c = c' ∨ c = -c' := by omega
  rcases this with z | z
  · subst z
    left
    have : 4 * c * (a - a') = 0 := by grind
    rcases Int.mul_eq_zero.1 this with y | y
    · omega
    · have : a = a' := by omega
      rw [this]
  · right
    subst z
    have : 4 * c' * (a + a') = 0 := by grind
    rcases Int.mul_eq_zero.1 this with y | y
    · omega
    · have : a = -a' := by omega
      rw [this]
      rfl
def kyL (d w : Int) (n : Nat) : List (Nat × Int) := (List.range n).map (fun i => ((itF d w i (frF d w)).2.2.natAbs, (itF d w i (frF d w)).2.1))
theorem ky_nd {d w : Int} (hn : nsq d) (hdd : isDd d) (hd0 : 0 < d) (hw : isWd d w) {m : Nat} (m2 : ∀ i, 0 < i → i < m → (itF d w i (frF d w)).1.natAbs ≠ 1) : (kyL d w m).Nodup := by
  have hD := frF_d hn hdd hd0 hw
  have hR := frF_red hn hdd hd0 hw
  have key : ∀ i j, i < j → j < m → ((itF d w i (frF d w)).2.2.natAbs, (itF d w i (frF d w)).2.1) ≠ ((itF d w j (frF d w)).2.2.natAbs, (itF d w j (frF d w)).2.1) := by
    intro i j hij hj z
    obtain ⟨Di, Ri⟩ := itF_red hn hd0 hw i _ hD hR
    obtain ⟨Dj, Rj⟩ := itF_red hn hd0 hw j _ hD hR
    obtain ⟨Dk, Rk⟩ := itF_red hn hd0 hw (j - i) _ hD hR
    have ej : itF d w j (frF d w) = itF d w i (itF d w (j - i) (frF d w)) := by
      rw [← itF_add, show j - i + i = j by omega]
    have z1 := congrArg Prod.fst z
    have z2 := congrArg Prod.snd z
    rcases same_bc hn hd0 hw Di Dj Ri Rj z2 z1 with y | y
    · rw [ej] at y
      have := itF_inj hn hd0 hw i _ _ hD hR Dk Rk y
      exact m2 (j - i) (by omega) (by omega) (by rw [← this]; rfl)
    · rw [ej, ← itF_neg] at y
      have := itF_inj hn hd0 hw i _ _ hD hR (by rw [dF_ng]; exact Dk) (red_ng Rk) y
      refine m2 (j - i) (by omega) (by omega) ?_
      have e1 : (frF d w).1 = -(itF d w (j - i) (frF d w)).1 := congrArg (fun f : Fm => f.1) this
      have e2 : (frF d w).1 = 1 := rfl
      omega
  unfold kyL
  rw [List.Nodup, List.pairwise_map]
  refine List.Pairwise.imp_of_mem ?_ (List.pairwise_lt_range (n := m))
  intro a b ha hb hab
  exact key a b hab (List.mem_range.1 hb)
/-- sizes along the principal ring -/
theorem pot_all {d w : Int} (hn : nsq d) (hdd : isDd d) (hd0 : 0 < d) (hdb : d ≤ 1048576) (hw : isWd d w) : ∀ n : Nat, (1024 * (itM d w n (frF d w) I2).2.2.2.natAbs + (itF d w n (frF d w)).2.2.natAbs * (itM d w n (frF d w) I2).2.2.1.natAbs) * pL (kyL d w n) ≤ 1024 ^ (n + 1)
  | 0 => by
    show (1024 * (1 : Int).natAbs + (frF d w).2.2.natAbs * (0 : Int).natAbs) * 1 ≤ 1024
    have e1 : (1 : Int).natAbs = 1 := rfl
    have e0 : (0 : Int).natAbs = 0 := rfl
    rw [e1, e0, Nat.mul_zero]
    decide
  | n + 1 => by
    have ih := pot_all hn hdd hd0 hdb hw n
    have hD := frF_d hn hdd hd0 hw
    have hR := frF_red hn hdd hd0 hw
    obtain ⟨D, R⟩ := itF_red hn hd0 hw n _ hD hR
    obtain ⟨D', R'⟩ := itF_red hn hd0 hw (n + 1) _ hD hR
    obtain ⟨-, a1, a2⟩ := itM_abs hn hd0 hw hD hR n
    have w3 := w_1023 hn hdd hd0 hdb hw
    have b1 := red_c hn hd0 hw D R
    have b2 := red_c hn hd0 hw D' R'
    have hk := nk_eq (d := d) (w := w) (b := (itF d w n (frF d w)).2.1) (nsq_3 hn D)
    have hD2 := nx_c1 (w := w) D (nsq_3 hn D)
    have hb' : nbE d w (itF d w n (frF d w)).2.1 (itF d w n (frF d w)).2.2 = (itF d w (n + 1) (frF d w)).2.1 := by rw [itF_succ]; rfl
    rw [hb'] at hk
    rw [← itF_succ] at hD2
    have hky : kyL d w (n + 1) = kyL d w n ++ [((itF d w n (frF d w)).2.2.natAbs, (itF d w n (frF d w)).2.1)] := by
      unfold kyL
      rw [List.range_succ, List.map_append]
      rfl
    rw [hky, pL_app, a1, a2]
    have hkn : 2 * ((itF d w n (frF d w)).2.2.natAbs * (tnF d w (frF d w) n).natAbs) = ((itF d w n (frF d w)).2.1 + (itF d w (n + 1) (frF d w)).2.1).natAbs := by
      rw [hk, Int.natAbs_mul, Int.natAbs_mul]
      show _ = 2 * _ * _
      rw [Nat.mul_assoc]
      rfl
    -- the inequality
    have ineq : 1024 * ((itF d w n (frF d w)).2.2.natAbs * (tnF d w (frF d w) n).natAbs) + (itF d w n (frF d w)).2.2.natAbs * (itF d w (n + 1) (frF d w)).2.2.natAbs ≤ 1048576 := by
      generalize (itF d w n (frF d w)).2.1 = b at *
      generalize (itF d w (n + 1) (frF d w)).2.1 = b' at *
      generalize (itF d w n (frF d w)).2.2.natAbs * (tnF d w (frF d w) n).natAbs = X at *
      have e1 : ((itF d w n (frF d w)).2.2.natAbs : Int) * (4 * ((itF d w (n + 1) (frF d w)).2.2.natAbs : Int)) = 4 * (((itF d w n (frF d w)).2.2.natAbs * (itF d w (n + 1) (frF d w)).2.2.natAbs : Nat) : Int) := by
        rw [Int.natCast_mul]
        grind
      rw [e1] at hD2
      generalize (itF d w n (frF d w)).2.2.natAbs * (itF d w (n + 1) (frF d w)).2.2.natAbs = Y at *
      have e2 : b' * b' ≤ d := by
        have := sq_le (x := b') (y := w) (by omega) (by omega)
        have := hw.2.1
        omega
      have e3 := sqn (1024 - b')
      have e4 : (1024 - b') * (1024 - b') = 1048576 - 2048 * b' + b' * b' := by grind
      omega
    have hp : 1024 ^ (n + 1 + 1) = 1024 * 1024 ^ (n + 1) := by rw [Nat.pow_succ, Nat.mul_comm]
    rw [hp]
    refine Nat.le_trans ?_ (Nat.mul_le_mul_left 1024 ih)
    generalize (itF d w n (frF d w)).2.2.natAbs = C at *
    generalize (itF d w (n + 1) (frF d w)).2.2.natAbs = C' at *
    generalize (tnF d w (frF d w) n).natAbs = K at *
    generalize (itM d w n (frF d w) I2).2.2.2.natAbs = S at *
    generalize (itM d w n (frF d w) I2).2.2.1.natAbs = Q at *
    generalize pL (kyL d w n) = P at *
    show (1024 * (K * S + Q) + C' * S) * (P * C) ≤ 1024 * ((1024 * S + C * Q) * P)
    have e5 : (1024 * (K * S + Q) + C' * S) * (P * C) = P * (S * (1024 * (C * K) + C * C') + 1024 * C * Q) := by grind
    have e6 : 1024 * ((1024 * S + C * Q) * P) = P * (S * 1048576 + 1024 * C * Q) := by grind
    rw [e5, e6]
    exact Nat.mul_le_mul_left P (Nat.add_le_add_right (Nat.mul_le_mul_left S ineq) _)
theorem size_16 {d w : Int} (hn : nsq d) (hdd : isDd d) (hd0 : 0 < d) (hdb : d ≤ 1048576) (hw : isWd d w) (q : Bool) {m : Nat} (m2 : ∀ i, 0 < i → i < m → (itF d w i (frF d w)).1.natAbs ≠ 1) (hq : q = true → ¬ (3 : Int) ∣ d ∧ ¬ (16 : Int) ∣ d ∧ ¬ (7 : Int) ∣ d) : (itM d w m (frF d w) I2).2.2.2.natAbs ^ 16 ≤ 2 ^ sWs q 1 1023 := by
  have hD := frF_d hn hdd hd0 hw
  have hR := frF_red hn hdd hd0 hw
  have w3 := w_1023 hn hdd hd0 hdb hw
  have hnd := ky_nd hn hdd hd0 hw m2
  have hpot := pot_all hn hdd hd0 hdb hw m
  have mem : ∀ z, z ∈ kyL d w m → ∃ f : Fm, dF f = d ∧ Red f ∧ z = (f.2.2.natAbs, f.2.1) := by
    intro z hz
    obtain ⟨i, hi, rfl⟩ := List.mem_map.1 hz
    obtain ⟨D, R⟩ := itF_red hn hd0 hw i _ hD hR
    exact ⟨_, D, R, rfl⟩
  have pos : ∀ z, z ∈ kyL d w m → 0 < z.1 ∧ z.1 ≤ 1023 := by
    intro z hz
    obtain ⟨f, D, R, rfl⟩ := mem z hz
    have := red_c hn hd0 hw D R
    have := nsq_3 hn D
    show 0 < f.2.2.natAbs ∧ f.2.2.natAbs ≤ 1023
    omega
  have hcnt := cnt_all q (L := kyL d w m) (fun z hz => (pos z hz).1) (fun n hn' => ?_) 1023 (Nat.le_refl _)
  · rw [flt_all 1023 _ (fun z hz => (pos z hz).2)] at hcnt
    have hlen : (kyL d w m).length = m := by
      unfold kyL
      rw [List.length_map, List.length_range]
    rw [hlen] at hcnt
    have hP0 : 0 < pL (kyL d w m) := by
      have : ∀ l : List (Nat × Int), (∀ z, z ∈ l → 0 < z.1) → 0 < pL l := by
        intro l
        induction l with
        | nil => exact fun _ => Nat.one_pos
        | cons x t ih => exact fun h => Nat.mul_pos (h x (List.mem_cons_self ..)) (ih (fun z hz => h z (List.mem_cons_of_mem _ hz)))
      exact this _ (fun z hz => (pos z hz).1)
    generalize pL (kyL d w m) = P at *
    generalize (itM d w m (frF d w) I2).2.2.2.natAbs = S at *
    have h1 : S * P ≤ 1024 ^ m := by
      have e : 1024 ^ (m + 1) = 1024 * 1024 ^ m := by rw [Nat.pow_succ, Nat.mul_comm]
      rw [e] at hpot
      have : 1024 * (S * P) ≤ 1024 * 1024 ^ m := by
        refine Nat.le_trans ?_ hpot
        rw [Nat.add_mul, Nat.mul_assoc]
        exact Nat.le_add_right _ _
      exact Nat.le_of_mul_le_mul_left this (by decide)
    have h2 : S ^ 16 * P ^ 16 ≤ 2 ^ sWs q 1 1023 * P ^ 16 := by
      rw [← Nat.mul_pow]
      refine Nat.le_trans (Nat.pow_le_pow_left h1 16) ?_
      rw [← Nat.pow_mul, Nat.mul_comm m 16]
      exact hcnt
    exact Nat.le_of_mul_le_mul_right h2 (Nat.pow_pos hP0)
  · have hl : ((kyL d w m).filter (fun z => decide (z.1 = n + 1))).length = (((kyL d w m).filter (fun z => decide (z.1 = n + 1))).map Prod.snd).length := by rw [List.length_map]
    rw [hl]
    have mem2 : ∀ b, b ∈ ((kyL d w m).filter (fun z => decide (z.1 = n + 1))).map Prod.snd → ∃ f : Fm, dF f = d ∧ Red f ∧ f.2.2.natAbs = n + 1 ∧ f.2.1 = b := by
      intro b hb
      obtain ⟨z, hz, rfl⟩ := List.mem_map.1 hb
      obtain ⟨z1, z2⟩ := List.mem_filter.1 hz
      rw [decide_eq_true_eq] at z2
      obtain ⟨f, D, R, rfl⟩ := mem z z1
      exact ⟨f, D, R, z2, rfl⟩
    refine win_cntW (d := d) (w := w) q w3 (a := n + 1) (by omega) ?_ (fun b hb => ?_) (fun b hb => ?_)
    · rw [List.Nodup, List.pairwise_map]
      refine List.Pairwise.imp_of_mem ?_ (hnd.filter _)
      intro x y hx hy hne z
      have x2 := (List.mem_filter.1 hx).2
      have y2 := (List.mem_filter.1 hy).2
      rw [decide_eq_true_eq] at x2 y2
      exact hne (Prod.ext (x2.trans y2.symm) z)
    · obtain ⟨f, D, R, hc, rfl⟩ := mem2 b hb
      have r := red_c hn hd0 hw D R
      rw [hc] at r
      refine ⟨by omega, fun hqt => ?_⟩
      obtain ⟨q1, q2, q3⟩ := hq hqt
      have D' : f.2.1 * f.2.1 - 4 * f.1 * f.2.2 = d := D
      have cdv : ∀ p : Int, p ∣ ((n + 1 : Nat) : Int) → p ∣ f.2.2 := by
        intro p hp
        rw [← hc] at hp
        exact Int.dvd_natAbs.1 hp
      refine ⟨fun z => q1 ?_, fun z => q2 ?_, fun z => q3 ?_⟩
      · obtain ⟨x, hx⟩ := cdv 3 z.1
        obtain ⟨y, hy⟩ := z.2
        exact ⟨3 * (y * y) - 4 * f.1 * x, by rw [← D', hx, hy]; grind⟩
      · obtain ⟨x, hx⟩ := cdv 4 z.1
        obtain ⟨y, hy⟩ := z.2
        exact ⟨y * y - f.1 * x, by rw [← D', hx, hy]; grind⟩
      · obtain ⟨x, hx⟩ := cdv 7 z.1
        obtain ⟨y, hy⟩ := z.2
        exact ⟨7 * (y * y) - 4 * f.1 * x, by rw [← D', hx, hy]; grind⟩
    · obtain ⟨f, D, R, hc, rfl⟩ := mem2 b hb
      have D' : f.2.1 * f.2.1 - 4 * f.1 * f.2.2 = d := D
      rw [← hc]
      rcases Int.natAbs_eq f.2.2 with z | z
      · exact ⟨f.1, by rw [← z, ← D']; grind⟩
      · refine ⟨-f.1, ?_⟩
        have e : (f.2.2.natAbs : Int) = -f.2.2 := by omega
        rw [e, ← D']
        grind
/-- THE UNIT IS SMALL -/
theorem unit_small {d w : Int} (hn : nsq d) (hdd : isDd d) (hd0 : 0 < d) (hdb : d ≤ 1048576) (hw : isWd d w) {N m : Nat} {t u x6 x7 : Int} (h : unP d w N m t u x6 x7) : t + 1 ≤ 2 ^ 15700 ∧ x6 ≤ t ∧ x7 ≤ t := by
  obtain ⟨hN, ⟨m0, m1, m2⟩, hu, -, hor⟩ := h
  obtain ⟨l1, l2⟩ := last_row hn hdd hd0 hw m0 m1
  have hB := (uF_facts hn hdd hd0 hw).1
  have nn : 0 ≤ uF d w * ((itM d w (m - 1) (frF d w) I2).2.2.2.natAbs : Int) := Int.mul_nonneg (by omega) (by omega)
  rcases hor with ⟨h1, h2, h3, h4, h5, h6, h7⟩ | ⟨h1, h2, h3, h4, h5, h6, h7, h8, h9, h10, h11, h12⟩
  · have hs := size_16 hn hdd hd0 hdb hw false m2 (fun z => by cases z)
    have h8 : (itM d w m (frF d w) I2).2.2.2.natAbs ≤ 2 ^ 9401 := by
      refine pow16 (Nat.le_trans hs (Nat.pow_le_pow_right (by decide) ?_))
      exact Nat.le_trans vF_63 (by decide)
    have h9 : (2 * 2 ^ 9401 : Nat) < 2 ^ 15700 := by
      have : (2 * 2 ^ 9401 : Nat) = 2 ^ (9401 + 1) := two_pw 9401
      rw [this]
      exact Nat.pow_lt_pow_right (by decide) (by decide)
    have e1 : ((2 ^ 15700 : Nat) : Int) = 2 ^ 15700 := by push_cast; rfl
    rw [← e1]
    generalize (2 ^ 15700 : Nat) = X at *
    generalize (2 ^ 9401 : Nat) = Y at *
    have := hu.1
    refine ⟨?_, by omega, by omega⟩
    rw [h5]
    omega
  · have hs := size_16 hn hdd hd0 hdb hw true m2 (fun _ => ⟨no3 h12, no16 h12, no7 h12⟩)
    have k8 : (itM d w m (frF d w) I2).2.2.2.natAbs ≤ 2 ^ 7837 := by
      refine pow16 (Nat.le_trans hs (Nat.pow_le_pow_right (by decide) ?_))
      exact Nat.le_trans vT_63 (by decide)
    have k9 : x6 ≤ 2 * ((2 ^ 7837 : Nat) : Int) := by
      generalize (2 ^ 7837 : Nat) = Y at *
      rw [h8]
      omega
    have k10 : x6 * x6 ≤ (2 * ((2 ^ 7837 : Nat) : Int)) * (2 * ((2 ^ 7837 : Nat) : Int)) := sq_le (by omega) k9
    have k11 : (2 * (2 ^ 7837 : Nat)) * (2 * (2 ^ 7837 : Nat)) + 3 ≤ 2 ^ 15700 := by
      have e : (2 * (2 ^ 7837 : Nat)) * (2 * (2 ^ 7837 : Nat)) = 2 ^ (7837 + 1 + (7837 + 1)) := by
        have : (2 * 2 ^ 7837 : Nat) = 2 ^ (7837 + 1) := two_pw 7837
        rw [this, ← Nat.pow_add]
      rw [e]
      have e2 : (2 ^ 15700 : Nat) = 2 ^ (7837 + 1 + (7837 + 1)) * 2 ^ 24 := by
        rw [← Nat.pow_add]
      rw [e2]
      have e3 : (1 : Nat) ≤ 2 ^ (7837 + 1 + (7837 + 1)) := Nat.pow_pos (by decide)
      have e4 : (2 : Nat) ^ 24 = 16777216 := rfl
      rw [e4]
      clear e e2 k10 k9 k8 hs
      generalize (2 : Nat) ^ (7837 + 1 + (7837 + 1)) = Z at *
      omega
    have e1 : ((2 ^ 15700 : Nat) : Int) = 2 ^ 15700 := by push_cast; rfl
    rw [← e1]
    have k12 : (((2 * (2 ^ 7837 : Nat)) * (2 * (2 ^ 7837 : Nat)) + 3 : Nat) : Int) ≤ ((2 ^ 15700 : Nat) : Int) := Int.ofNat_le.2 k11
    rw [Int.natCast_add, Int.natCast_mul, Int.natCast_mul] at k12
    generalize ((2 ^ 15700 : Nat) : Int) = X at *
    generalize ((2 ^ 7837 : Nat) : Int) = Y at *
    have c2 : ((2 : Nat) : Int) = 2 := rfl
    have c3 : ((3 : Nat) : Int) = 3 := rfl
    rw [c2, c3] at k12
    have x66 : x6 * 1 ≤ x6 * x6 := Int.mul_le_mul_of_nonneg_left (by omega) (by omega)
    have x77 : x7 * 1 ≤ x7 * x7 := Int.mul_le_mul_of_nonneg_left (by omega) (by omega)
    have d77 : 5 * (x7 * x7) ≤ d * (x7 * x7) := Int.mul_le_mul_of_nonneg_right (d5 hn hdd hd0 hw).1 (sqn x7)
    refine ⟨by omega, by omega, by omega⟩
end
