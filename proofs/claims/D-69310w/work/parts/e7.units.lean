/-! the unit as the house and the model find it -/
theorem pu_lt {d t u : Int} (h5 : 5 ≤ d) (h : isPu d t u) : u < t ∧ 2 * u < t + 2 ∧ 3 ≤ t := by
  obtain ⟨h1, h2, h3, -⟩ := h
  have e1 : 5 * (u * u) ≤ d * (u * u) := Int.mul_le_mul_of_nonneg_right h5 (sqn u)
  have e2 : (2 * u) * (2 * u) = 4 * (u * u) := by grind
  have e3 := sqn u
  have a1 : 2 * u < t := lt_of_sq (by omega) (by omega)
  refine ⟨by omega, by omega, by omega⟩
theorem uN_succ (d w : Int) : ∀ (n : Nat) (s : uSt), uN d w (n + 1) s = uStep d w (uN d w n s)
  | 0, _ => rfl
  | n + 1, s => uN_succ d w n (uStep d w s)
theorem itX_succ (d w b : Int) : ∀ (n : Nat) (g : Fm) (m : mxI) (x : xI), itX d w b (n + 1) g m x = upX b (itF d w (n + 1) g) (itM d w (n + 1) g m) (itX d w b n g m x)
  | 0, _, _, _ => rfl
  | n + 1, g, m, x => itX_succ d w b n (nx d w g) _ _
section
theorem red_b {d w : Int} (hn : nsq d) (hdd : isDd d) (hd0 : 0 < d) (hw : isWd d w) (hw4 : w ≤ 1024) {g : Fm} (hD : dF g = d) (hr : Red g) : (g.1.natAbs : Int) ≤ 1024 ∧ g.2.1 ≤ 1024 ∧ 0 < g.2.1 ∧ (g.2.2.natAbs : Int) ≤ 1024 := by
  have h1 := red_bd hn hd0 hw hD hr
  have h2 := red_c hn hd0 hw hD hr
  omega
theorem auM_bd {d w : Int} (hn : nsq d) (hdd : isDd d) (hd0 : 0 < d) (hw : isWd d w) (hw4 : w ≤ 1024) {g : Fm} (hD : dF g = d) (hr : Red g) {t u : Int} (hu : isPu d t u) : ((auM g t u).1.natAbs : Int) ≤ 1024 * t ∧ ((auM g t u).2.1.natAbs : Int) ≤ 1024 * t ∧ ((auM g t u).2.2.1.natAbs : Int) ≤ 1024 * t ∧ ((auM g t u).2.2.2.natAbs : Int) ≤ 1024 * t := by
  obtain ⟨b1, b2, b3, b4⟩ := red_b hn hdd hd0 hw hw4 hD hr
  have hut := pu_lt (d5 hn hdd hd0 hw).1 hu
  obtain ⟨p, s, h1, h2, h3, h4, h5, h6, h7⟩ := half_unit (a := g.1) (b := g.2.1) (c := g.2.2) hD hu.2.2.1
  have u0 := hu.2.1
  have bu : g.2.1 * u ≤ 1024 * u := Int.mul_le_mul_of_nonneg_right b2 (by omega)
  have bu0 : 0 ≤ g.2.1 * u := Int.mul_nonneg (by omega) (by omega)
  have ps : 0 < p * s := by
    rw [h7]
    have : 0 ≤ -(g.1 * g.2.2) * (u * u) := Int.mul_nonneg (by have := hr.1; omega) (sqn u)
    have e : -(g.1 * g.2.2) * (u * u) = -(g.1 * g.2.2 * (u * u)) := by grind
    omega
  have s0 : 0 < s := by omega
  have p0 : 0 < p := by
    rw [Int.mul_comm] at ps
    exact pos_of_mul s0 ps
  refine ⟨?_, ?_, ?_, ?_⟩
  · show (((t - g.2.1 * u) / 2).natAbs : Int) ≤ 1024 * t
    rw [h1]
    omega
  · show ((-g.2.2 * u).natAbs : Int) ≤ 1024 * t
    rw [Int.natAbs_mul, Int.natAbs_neg, Int.natCast_mul]
    have : (g.2.2.natAbs : Int) * u.natAbs ≤ 1024 * u.natAbs := Int.mul_le_mul_of_nonneg_right b4 (by omega)
    omega
  · show ((g.1 * u).natAbs : Int) ≤ 1024 * t
    rw [Int.natAbs_mul, Int.natCast_mul]
    have : (g.1.natAbs : Int) * u.natAbs ≤ 1024 * u.natAbs := Int.mul_le_mul_of_nonneg_right b1 (by omega)
    omega
  · show (((t + g.2.1 * u) / 2).natAbs : Int) ≤ 1024 * t
    rw [h2]
    omega
/-- all matrices once round the ring are small -/
theorem ring_bd {d w : Int} (hn : nsq d) (hdd : isDd d) (hd0 : 0 < d) (hw : isWd d w) (hw4 : w ≤ 1024) {g : Fm} (hV : Vld d g) (hr : Red g) {t u : Int} (hu : isPu d t u) {N : Nat} (hN : isRn d w g N) {i : Nat} (hi : i ≤ N) : ((itM d w i g I2).1.natAbs : Int) ≤ 1024 * t ∧ ((itM d w i g I2).2.1.natAbs : Int) ≤ 1024 * t ∧ ((itM d w i g I2).2.2.1.natAbs : Int) ≤ 1024 * t ∧ ((itM d w i g I2).2.2.2.natAbs : Int) ≤ 1024 * t := by
  have hut := pu_lt (d5 hn hdd hd0 hw).1 hu
  rcases Nat.eq_zero_or_pos i with z | z
  · subst z
    show ((1 : Int).natAbs : Int) ≤ 1024 * t ∧ ((0 : Int).natAbs : Int) ≤ 1024 * t ∧ ((0 : Int).natAbs : Int) ≤ 1024 * t ∧ ((1 : Int).natAbs : Int) ≤ 1024 * t
    have e1 : ((1 : Int).natAbs : Int) = 1 := rfl
    have e0 : ((0 : Int).natAbs : Int) = 0 := rfl
    rw [e1, e0]
    omega
  · obtain ⟨e, he, hm⟩ := ring_unit hn hd0 hw hu hV hr hN
    obtain ⟨a1, a2, a3, a4⟩ := auM_bd hn hdd hd0 hw hw4 hV.1 hr hu
    have r1 := row1_up hn hd0 hw hV.1 hr (i - 1) (N - i)
    have r2 := row2_up hn hd0 hw hV.1 hr i (N - i)
    rw [show i - 1 + 1 + (N - i) = N by omega, show i - 1 + 1 = i by omega] at r1
    rw [show i + (N - i) = N by omega] at r2
    rw [hm] at r1 r2
    have e1 : ∀ x : Int, (e * x).natAbs = x.natAbs := fun x => by rcases he with rfl | rfl <;> omega
    have q1 : (sgM e (auM g t u)).1.natAbs = (auM g t u).1.natAbs := e1 _
    have q2 : (sgM e (auM g t u)).2.1.natAbs = (auM g t u).2.1.natAbs := e1 _
    have q3 : (sgM e (auM g t u)).2.2.1.natAbs = (auM g t u).2.2.1.natAbs := e1 _
    have q4 : (sgM e (auM g t u)).2.2.2.natAbs = (auM g t u).2.2.2.natAbs := e1 _
    rw [q1, q2] at r1
    rw [q3, q4] at r2
    omega
/-- small numbers of the forms of a ring -/
theorem red_ok {d w : Int} (hn : nsq d) (hdd : isDd d) (hd0 : 0 < d) (hw : isWd d w) (hw4 : w ≤ 1024) {g : Fm} (hD : dF g = d) (hr : Red g) : okF g ∧ (-9223372036854775808 < nkE d w g.2.1 g.2.2 ∧ nkE d w g.2.1 g.2.2 < 9223372036854775808) ∧ (nkE d w g.2.1 g.2.2).natAbs ≤ 1024 := by
  obtain ⟨b1, b2, b3, b4⟩ := red_b hn hdd hd0 hw hw4 hD hr
  have hc := nsq_3 hn hD
  have hk := nk_eq (d := d) (w := w) (b := g.2.1) hc
  obtain ⟨n1, n2, -⟩ := nb_red hn hd0 hw hD hr
  have hkb : (nkE d w g.2.1 g.2.2).natAbs ≤ 1024 := by
    have e1 : (2 * g.2.2 * nkE d w g.2.1 g.2.2).natAbs = 2 * g.2.2.natAbs * (nkE d w g.2.1 g.2.2).natAbs := by rw [Int.natAbs_mul, Int.natAbs_mul]; rfl
    rw [← hk] at e1
    have e2 : 2 * (nkE d w g.2.1 g.2.2).natAbs ≤ 2 * g.2.2.natAbs * (nkE d w g.2.1 g.2.2).natAbs := Nat.mul_le_mul_right _ (by omega)
    omega
  exact ⟨⟨by omega, by omega, by omega, hc⟩, by omega, hkb⟩
theorem u_step {d w : Int} (hn : nsq d) (hdd : isDd d) (hd0 : 0 < d) (hw : isWd d w) {g : Fm} (hD : dF g = d) (hr : Red g) (S R : Int) : uStep d w (g.2.1, 2 * g.2.2.natAbs, S, R) = ((nx d w g).2.1, 2 * ((nx d w g).2.2.natAbs : Int), (nkE d w g.2.1 g.2.2).natAbs * S + R, S) := by
  have hc := nsq_3 hn hD
  have hk := nk_eq (d := d) (w := w) (b := g.2.1) hc
  obtain ⟨n1, n2, n3, n4⟩ := nb_red hn hd0 hw hD hr
  have hD2 := nx_c (w := w) hD hc
  have hsg := tn_sg hn hd0 hw hD hr
  have e0 : (nx d w g).2.1 = nbE d w g.2.1 g.2.2 := rfl
  rw [e0] at hD2 ⊢
  have hb := hr.2.1
  generalize (nx d w g).2.2 = c' at *
  generalize nkE d w g.2.1 g.2.2 = k at *
  generalize nbE d w g.2.1 g.2.2 = b' at *
  generalize g.2.1 = b at *
  generalize g.2.2 = c at *
  have ck : 2 * (c.natAbs : Int) * k.natAbs = b + b' := by
    have e1 : ((2 * c * k).natAbs : Int) = 2 * (c.natAbs : Int) * k.natAbs := by
      rw [Int.natAbs_mul, Int.natAbs_mul]
      push_cast
      rfl
    rw [← e1, ← hk]
    omega
  have cc : d - b' * b' = 2 * (c.natAbs : Int) * (2 * c'.natAbs) := by
    have e1 : ((c * c').natAbs : Int) = (c.natAbs : Int) * c'.natAbs := by rw [Int.natAbs_mul, Int.natCast_mul]
    have e2 : 2 * (c.natAbs : Int) * (2 * c'.natAbs) = 4 * ((c.natAbs : Int) * c'.natAbs) := by grind
    have e3 : 4 * c * c' = 4 * (c * c') := by grind
    rw [e2, ← e1]
    omega
  have c0 : 0 < (c.natAbs : Int) := by omega
  have q : (b + w).tdiv (2 * (c.natAbs : Int)) = k.natAbs := by
    rw [Int.tdiv_eq_ediv_of_nonneg (by omega)]
    have : b + w = (w - b') + 2 * (c.natAbs : Int) * k.natAbs := by omega
    rw [this, Int.add_mul_ediv_left _ _ (by omega), Int.ediv_eq_zero_of_lt (by omega) (by omega), Int.zero_add]
  have pp : (k.natAbs : Int) * (2 * (c.natAbs : Int)) - b = b' := by
    have : (k.natAbs : Int) * (2 * (c.natAbs : Int)) = 2 * (c.natAbs : Int) * k.natAbs := by grind
    omega
  show ((b + w).tdiv (2 * (c.natAbs : Int)) * (2 * (c.natAbs : Int)) - b, (d - ((b + w).tdiv (2 * (c.natAbs : Int)) * (2 * (c.natAbs : Int)) - b) * ((b + w).tdiv (2 * (c.natAbs : Int)) * (2 * (c.natAbs : Int)) - b)).tdiv (2 * (c.natAbs : Int)), (b + w).tdiv (2 * (c.natAbs : Int)) * S + R, S) = _
  rw [q, pp, cc, Int.mul_tdiv_cancel_left _ (by omega)]
theorem uN_st {d w : Int} (hn : nsq d) (hdd : isDd d) (hd0 : 0 < d) (hw : isWd d w) : ∀ i : Nat, uN d w (i + 1) (uF d w, 2, 0, 1) = ((itF d w i (frF d w)).2.1, 2 * ((itF d w i (frF d w)).2.2.natAbs : Int), ((itM d w i (frF d w) I2).2.2.2.natAbs : Int), ((itM d w i (frF d w) I2).2.2.1.natAbs : Int))
  | 0 => by
    obtain ⟨f1, f2, f3, f4⟩ := uF_facts hn hdd hd0 hw
    have hD : uF d w * uF d w - 4 * 1 * (frF d w).2.2 = d := frF_d hn hdd hd0 hw
    have hc : (frF d w).2.2 < 0 := by
      rcases red_sign (frF_red hn hdd hd0 hw) with z | z
      · exact z.2
      · have : (1 : Int) < 0 := z.1
        omega
    show uStep d w (uF d w, 2, 0, 1) = (uF d w, 2 * ((frF d w).2.2.natAbs : Int), 1, 0)
    have q : (uF d w + w).tdiv 2 = uF d w := by
      rw [Int.tdiv_eq_ediv_of_nonneg (by omega)]
      omega
    show ((uF d w + w).tdiv 2 * 2 - uF d w, (d - ((uF d w + w).tdiv 2 * 2 - uF d w) * ((uF d w + w).tdiv 2 * 2 - uF d w)).tdiv 2, (uF d w + w).tdiv 2 * 0 + 1, (0 : Int)) = _
    rw [q]
    have e1 : uF d w * 2 - uF d w = uF d w := by omega
    have e2 : d - uF d w * uF d w = 2 * (2 * ((frF d w).2.2.natAbs : Int)) := by omega
    rw [e1, e2, Int.mul_tdiv_cancel_left _ (by decide), Int.mul_zero, Int.zero_add]
  | i + 1 => by
    obtain ⟨D, R⟩ := itF_red hn hd0 hw i _ (frF_d hn hdd hd0 hw) (frF_red hn hdd hd0 hw)
    obtain ⟨-, a1, a2⟩ := itM_abs hn hd0 hw (frF_d hn hdd hd0 hw) (frF_red hn hdd hd0 hw) i
    rw [uN_succ, uN_st hn hdd hd0 hw i, u_step hn hdd hd0 hw D R, itF_succ, a1, a2, Int.natCast_add, Int.natCast_mul]
    rfl
theorem u_bd {d w : Int} (hn : nsq d) (hdd : isDd d) (hd0 : 0 < d) (hw : isWd d w) (hw4 : w ≤ 1024) (i : Nat) : uBd (uN d w i (uF d w, 2, 0, 1)) := by
  obtain ⟨f1, f2, f3, f4⟩ := uF_facts hn hdd hd0 hw
  cases i with
  | zero =>
    show (0 ≤ uF d w ∧ uF d w ≤ 4096) ∧ (0 : Int) < 2 ∧ (2 : Int) ≤ 4194304
    omega
  | succ i =>
    rw [uN_st hn hdd hd0 hw i]
    obtain ⟨D, R⟩ := itF_red hn hd0 hw i _ (frF_d hn hdd hd0 hw) (frF_red hn hdd hd0 hw)
    obtain ⟨b1, b2, b3, b4⟩ := red_b hn hdd hd0 hw hw4 D R
    have := nsq_3 hn D
    show (0 ≤ (itF d w i (frF d w)).2.1 ∧ (itF d w i (frF d w)).2.1 ≤ 4096) ∧ 0 < 2 * ((itF d w i (frF d w)).2.2.natAbs : Int) ∧ 2 * ((itF d w i (frF d w)).2.2.natAbs : Int) ≤ 4194304
    omega
theorem uT_of {d w : Int} (hn : nsq d) (hdd : isDd d) (hd0 : 0 < d) (hw : isWd d w) (hw4 : w ≤ 1024) {m : Nat} (m1 : (itF d w m (frF d w)).1.natAbs = 1) (m2 : ∀ i, 0 < i → i < m → (itF d w i (frF d w)).1.natAbs ≠ 1) : ∀ (n i : Nat), i + n + 1 = m → uT d w (uF d w) (n + 1) (uN d w i (uF d w, 2, 0, 1)) := by
  have hD := frF_d hn hdd hd0 hw
  have hR := frF_red hn hdd hd0 hw
  have c0 : ∀ i, (itF d w (i + 1) (frF d w)).1 = (itF d w i (frF d w)).2.2 := fun i => by rw [itF_succ]; rfl
  have bd := u_bd hn hdd hd0 hw hw4
  intro n
  induction n with
  | zero =>
    intro i hi
    obtain ⟨D, R⟩ := itF_red hn hd0 hw i _ hD hR
    refine ⟨bd i, Or.inl ⟨rfl, ?_⟩⟩
    rw [← uN_succ, uN_st hn hdd hd0 hw i]
    have e : i + 1 = m := by omega
    rw [← e, c0] at m1
    refine ⟨one_mid hn hdd hd0 hw D R (Or.inr m1), ?_⟩
    show 2 * ((itF d w i (frF d w)).2.2.natAbs : Int) = 2
    omega
  | succ n ih =>
    intro i hi
    refine ⟨bd i, Or.inr ⟨?_, ?_⟩⟩
    · rw [← uN_succ, uN_st hn hdd hd0 hw i]
      rintro ⟨-, z⟩
      have z' : 2 * ((itF d w i (frF d w)).2.2.natAbs : Int) = 2 := z
      refine m2 (i + 1) (by omega) (by omega) ?_
      rw [c0]
      omega
    · rw [← uN_succ]
      exact ih (i + 1) (by omega)
/-- THE MODEL'S UNIT -/
theorem mu_of {d w : Int} (hn : nsq d) (hdd : isDd d) (hd0 : 0 < d) (hw : isWd d w) (hw4 : w ≤ 1024) {N m : Nat} {t u x6 x7 : Int} (h : unP d w N m t u x6 x7) : muP d w m t u x6 x7 x7.sign ∧ (x7.sign = 0 ∨ x7.sign = 1) := by
  obtain ⟨-, ⟨m0, m1, m2⟩, hu, -, hor⟩ := h
  have hT := uT_of hn hdd hd0 hw hw4 m1 m2 (m - 1) 0 (by omega)
  rw [show m - 1 + 1 = m by omega] at hT
  have hst := uN_st hn hdd hd0 hw (m - 1)
  rw [show m - 1 + 1 = m by omega] at hst
  rcases hor with ⟨h1, h2, h3, h4, h5, h6, -⟩ | ⟨h1, h2, h3, h4, h5, h6, h7, h8, h9, h10, h11, h12⟩
  · subst h3
    subst h4
    refine ⟨⟨fun z => by omega, fun _ => ⟨hT, fun _ => ?_, fun z => by omega⟩⟩, Or.inl rfl⟩
    rw [hst]
    exact ⟨h5, h6, rfl, rfl, rfl⟩
  · have sg : x7.sign = 1 := Int.sign_eq_one_of_pos h5
    refine ⟨⟨fun z => by omega, fun _ => ⟨hT, fun z => by omega, fun _ => ?_⟩⟩, Or.inr sg⟩
    rw [hst]
    exact ⟨h8, h9, h10, h11, sg⟩
theorem trR_of {d w : Int} (hn : nsq d) (hdd : isDd d) (hd0 : 0 < d) (hw : isWd d w) (hw4 : w ≤ 1024) {f0 : Fm} {N : Nat} (h1 : ∀ i, i < N → okF (itF d w i f0)) (h2 : ∀ i, i < N → bdM (tnF d w f0 i) (itM d w i f0 I2)) (h3 : ∀ i, i < N → -9223372036854775808 < tnF d w f0 i ∧ tnF d w f0 i < 9223372036854775808) (h4 : ∀ i, i < N → okX f0.2.1 (itF d w (i + 1) f0) (itM d w (i + 1) f0 I2) (itX d w f0.2.1 i f0 I2 (0, 0))) (hN : isRn d w f0 N) : ∀ (n i : Nat), i + n + 1 = N → trR d w f0 (n + 1) (itF d w i f0) (itM d w i f0 I2) (itX d w f0.2.1 i f0 I2 (0, 0)) := by
  have e1 : ∀ i, nx d w (itF d w i f0) = itF d w (i + 1) f0 := fun i => (itF_succ d w i f0).symm
  have e2 : ∀ i, stM (nkE d w (itF d w i f0).2.1 (itF d w i f0).2.2) (itM d w i f0 I2) = itM d w (i + 1) f0 I2 := fun i => (itM_suc d w i f0 I2).symm
  have ok' : ∀ i, i ≤ N → okF (itF d w i f0) := fun i hi => by
    rcases Nat.lt_or_ge i N with z | z
    · exact h1 i z
    · have : i = N := by omega
      rw [this, hN.2.1]
      exact h1 0 hN.1
  intro n
  induction n with
  | zero =>
    intro i hi
    refine ⟨h1 i (by omega), h2 i (by omega), h3 i (by omega), ?_, ?_, Or.inl ⟨rfl, ?_⟩⟩
    · rw [e1]
      exact ok' _ (by omega)
    · rw [e1, e2]
      exact h4 i (by omega)
    · rw [e1, show i + 1 = N by omega]
      exact hN.2.1
  | succ n ih =>
    intro i hi
    refine ⟨h1 i (by omega), h2 i (by omega), h3 i (by omega), ?_, ?_, Or.inr ⟨?_, ?_⟩⟩
    · rw [e1]
      exact ok' _ (by omega)
    · rw [e1, e2]
      exact h4 i (by omega)
    · rw [e1]
      exact hN.2.2 _ (by omega) (by omega)
    · rw [e1, e2, ← itX_succ]
      exact ih (i + 1) (by omega)
/-- steps round a ring are small -/
theorem ring_bdM {d w : Int} (hn : nsq d) (hdd : isDd d) (hd0 : 0 < d) (hw : isWd d w) (hw4 : w ≤ 1024) {g : Fm} (hV : Vld d g) (hr : Red g) {t u : Int} (hu : isPu d t u) {N : Nat} (hN : isRn d w g N) (hB : 1024 * t < ((4294967296 ^ 1024 : Nat) : Int)) {i : Nat} (hi : i < N) : bdM (tnF d w g i) (itM d w i g I2) := by
  obtain ⟨⟨-, a2⟩, -, a4⟩ := itM_abs hn hd0 hw hV.1 hr i
  obtain ⟨-, b2, -, b4⟩ := ring_bd hn hdd hd0 hw hw4 hV hr hu hN (i := i + 1) (by omega)
  unfold bdM
  generalize (4294967296 ^ 1024 : Nat) = BB at *
  rw [Int.natAbs_mul, Int.natAbs_mul, Nat.mul_comm, ← a2, Nat.mul_comm, ← a4]
  omega
theorem itX_of {d w : Int} (hn : nsq d) (hdd : isDd d) (hd0 : 0 < d) (hw : isWd d w) (hw4 : w ≤ 1024) {N m : Nat} {t u x6 x7 : Int} (h : unP d w N m t u x6 x7) : (∀ i, i ≤ N → (i < m ∨ m % 2 = 0) → itX d w (uF d w) i (frF d w) I2 (0, 0) = (0, 0)) ∧ (m % 2 = 1 → ∀ j, itX d w (uF d w) (m + j) (frF d w) I2 (0, 0) = (x6, x7)) := by
  obtain ⟨hN, ⟨m0, m1, m2⟩, hu, -, hor⟩ := h
  have none : ∀ i, i ≤ N → (i < m ∨ m % 2 = 0) → itX d w (uF d w) i (frF d w) I2 (0, 0) = (0, 0) := by
    intro i
    induction i with
    | zero => exact fun _ _ => rfl
    | succ i ih =>
      intro hi ho
      rw [itX_succ, ih (by omega) (by omega)]
      unfold upX
      rw [if_neg]
      rintro ⟨z, -⟩
      rcases hor with ⟨h1, h2, h3, h4, h5, h6, h7⟩ | ⟨h1, h2, h3, -⟩
      · exact h7 (i + 1) (by omega) hi z
      · rcases ho with y | y
        · exact m2 (i + 1) (by omega) y (by rw [z]; rfl)
        · omega
  refine ⟨none, fun hm j => ?_⟩
  rcases hor with ⟨h1, -⟩ | ⟨h1, h2, h3, h4, h5, h6, h7, h8, h9, h10, h11, h12⟩
  · omega
  · induction j with
    | zero =>
      obtain ⟨k, rfl⟩ : ∃ k, m = k + 1 := ⟨m - 1, by omega⟩
      rw [Nat.add_zero, itX_succ, none k (by omega) (by omega)]
      unfold upX
      rw [if_pos ⟨h3, rfl⟩, ← h6, ← h7]
    | succ j ih =>
      rw [show m + (j + 1) = m + j + 1 by omega, itX_succ, ih]
      unfold upX
      rw [if_neg]
      rintro ⟨-, z⟩
      have z' : x7 = 0 := z
      omega
/-- THE HOUSE'S UNIT -/
theorem un_of {d w : Int} (hn : nsq d) (hdd : isDd d) (hd0 : 0 < d) (hw : isWd d w) (hw4 : w ≤ 1024) {N m : Nat} {t u x6 x7 : Int} (h : unP d w N m t u x6 x7) (hB : 4194304 * t < ((4294967296 ^ 1024 : Nat) : Int)) : isUn d w t u x6 x7 := by
  have hX := itX_of hn hdd hd0 hw hw4 h
  have h' := h
  obtain ⟨hN, ⟨m0, m1, m2⟩, hu, ⟨e, he, hmm⟩, hor⟩ := h'
  have hV := frF_vld hn hdd hd0 hw
  have hD := frF_d hn hdd hd0 hw
  have hR := frF_red hn hdd hd0 hw
  have t0 := hu.1
  have hB' : 1024 * t < ((4294967296 ^ 1024 : Nat) : Int) := by
    generalize (4294967296 ^ 1024 : Nat) = BB at *
    omega
  have hN0 := hN.1
  have okk : ∀ i, okF (itF d w i (frF d w)) := fun i => by
    obtain ⟨D, R⟩ := itF_red hn hd0 hw i _ hD hR
    exact (red_ok hn hdd hd0 hw hw4 D R).1
  have htr : (itM d w N (frF d w) I2).1 + (itM d w N (frF d w) I2).2.2.2 = e * t := by
    obtain ⟨p, s, h1, h2, h3, h4, h5, h6, h7⟩ := half_unit (a := (frF d w).1) (b := (frF d w).2.1) (c := (frF d w).2.2) hD hu.2.2.1
    rw [hmm]
    show e * ((t - (frF d w).2.1 * u) / 2) + e * ((t + (frF d w).2.1 * u) / 2) = e * t
    rw [h1, h2, ← Int.mul_add, h6]
  have hr3 : (itM d w N (frF d w) I2).2.2.1 = e * (1 * u) := by rw [hmm]; rfl
  refine Or.inr ⟨hd0, hw, N, okk 0, ?_, ?_, ?_, ?_, ?_, ?_⟩
  · have := trR_of hn hdd hd0 hw hw4 (f0 := frF d w) (N := N) (fun i _ => okk i) (fun i hi => ring_bdM hn hdd hd0 hw hw4 hV hR hu hN hB' hi) (fun i _ => by
      obtain ⟨D, R⟩ := itF_red hn hd0 hw i _ hD hR
      exact (red_ok hn hdd hd0 hw hw4 D R).2.1) (fun i hi => ?_) hN (N - 1) 0 (by omega)
    · rw [show N - 1 + 1 = N by omega] at this
      exact this
    · intro ha hx
      have e2 : (frF d w).2.1 = uF d w := rfl
      rw [e2] at hx ⊢
      rcases hor with ⟨h1, h2, h3, h4, h5, h6, h7⟩ | ⟨h1, h2, h3, h4, h5, h6, h7, h8, h9, h10, h11, h12⟩
      · exact (h7 (i + 1) (by omega) (by omega) ha).elim
      · have hi' : i < m := by
          rcases Nat.lt_or_ge i m with z | z
          · exact z
          · have := hX.2 h1 (i - m)
            rw [show m + (i - m) = i by omega] at this
            rw [this] at hx
            have : x7 = 0 := hx
            omega
        have him : i + 1 = m := by
          rcases Nat.lt_or_ge (i + 1) m with z | z
          · exact (m2 (i + 1) (by omega) z (by rw [ha]; rfl)).elim
          · omega
        rw [him]
        obtain ⟨b1, b2, b3, b4⟩ := ring_bd hn hdd hd0 hw hw4 hV hR hu hN (i := m) (by omega)
        constructor
        · rw [Int.natAbs_mul, Int.natAbs_mul]
          have hub : (uF d w).natAbs ≤ 1024 := by
            have := uF_facts hn hdd hd0 hw
            omega
          have q1 : (itM d w m (frF d w) I2).2.2.1.natAbs * (uF d w).natAbs ≤ (itM d w m (frF d w) I2).2.2.1.natAbs * 1024 := Nat.mul_le_mul_left _ hub
          have q2 : (2 : Int).natAbs = 2 := rfl
          rw [q2]
          generalize (4294967296 ^ 1024 : Nat) = BB at *
          omega
        · intro z
          rw [z] at h6
          have : ((0 : Int).natAbs : Int) = 0 := rfl
          omega
  · obtain ⟨b1, b2, b3, b4⟩ := ring_bd hn hdd hd0 hw hw4 hV hR hu hN (i := N) (Nat.le_refl _)
    show (itM d w N (frF d w) I2).1.natAbs + (itM d w N (frF d w) I2).2.2.2.natAbs < 4294967296 ^ 1024
    generalize (4294967296 ^ 1024 : Nat) = BB at *
    omega
  · show (itM d w N (frF d w) I2).1 + (itM d w N (frF d w) I2).2.2.2 ≠ 0
    rw [htr]
    rcases he with rfl | rfl <;> omega
  · show t = (((itM d w N (frF d w) I2).1 + (itM d w N (frF d w) I2).2.2.2).natAbs : Int)
    rw [htr]
    rcases he with rfl | rfl <;> omega
  · have u0 := hu.2.1
    show u = ((itM d w N (frF d w) I2).2.2.1.natAbs : Int)
    rw [hr3]
    rcases he with rfl | rfl <;> omega
  · show x6 = (itX d w (uF d w) N (frF d w) I2 (0, 0)).1 ∧ x7 = (itX d w (uF d w) N (frF d w) I2 (0, 0)).2
    rcases hor with ⟨h1, h2, h3, h4, -⟩ | ⟨h1, h2, -⟩
    · rw [hX.1 N (Nat.le_refl _) (Or.inr h1)]
      exact ⟨h3, h4⟩
    · have := hX.2 h1 m
      rw [show m + m = N by omega] at this
      rw [this]
      exact ⟨rfl, rfl⟩
end
