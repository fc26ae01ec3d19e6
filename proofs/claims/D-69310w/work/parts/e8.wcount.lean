/-! how great a unit can be: counts that the kernel reckons -/
def nd3 (p c x : Nat) : Bool := !(Nat.beq (Nat.mod c p) 0 && Nat.beq (Nat.mod x p) 0)
def aW (q : Bool) (c x : Nat) : Bool := Nat.ble x c && (!q || (nd3 3 c x && (nd3 4 c x && nd3 7 c x)))
def loW (c : Nat) : Nat := Nat.sub (Nat.mul 2 c) 1023
noncomputable def mxG (G n lo m : Nat) : Nat := frc Nat.log2 (frc (fun N => orB (frc (fun x => bif Nat.ble (Nat.gcd x G) 2 then Nat.shiftLeft 1 (Nat.mod (Nat.shiftRight N (Nat.mul 12 (Nat.mod (Nat.pow x 2) m))) 4096) else 0)) 11 n lo) (sumB (frc (fun x => bif Nat.ble (Nat.gcd x G) 2 then Nat.shiftLeft 1 (Nat.mul 12 (Nat.mod (Nat.pow x 2) m)) else 0)) 11 n lo))
noncomputable def mxQ (c G : Nat) : Nat := bif Nat.ble G 2 then frc (fun lo => frc (mxS (Nat.sub (Nat.add c 1) lo) lo) (Nat.mul 4 c)) (loW c) else frc (fun lo => frc (mxG G (Nat.sub (Nat.add c 1) lo) lo) (Nat.mul 4 c)) (loW c)
noncomputable def mW (q : Bool) (c : Nat) : Nat := Nat.mul 2 (frc (mxQ c) (bif q then Nat.gcd c 84 else 1))
def lgW (c m : Nat) : Nat := Nat.add (Nat.log2 (Nat.div (Nat.pow 1024 (Nat.mul 16 m)) (Nat.pow c (Nat.mul 16 m)))) 1
noncomputable def bW (q : Bool) (c : Nat) : Nat := frc (lgW c) (mW q c)
noncomputable def bR (q : Bool) (c : Nat) : Nat := frc (bW q) c
noncomputable def sWs (q : Bool) (lo : Nat) (n : Nat) : Nat := Nat.rec (motive := fun _ => Nat) 0 (fun i ih => Nat.add ih (bR q (Nat.add lo i))) n
theorem gcd_84 : ∀ g : Nat, g ≤ 84 → g ∣ 84 → ¬ g ≤ 2 → 3 ∣ g ∨ 4 ∣ g ∨ 7 ∣ g := by decide
theorem nd3_no {p c x : Nat} (h : nd3 p c x = true) (hc : p ∣ c) (hx : p ∣ x) : False := by
  unfold nd3 at h
  rw [show Nat.mod c p = c % p from rfl, show Nat.mod x p = x % p from rfl, Nat.mod_eq_zero_of_dvd hc, Nat.mod_eq_zero_of_dvd hx] at h
  cases h
theorem gcd_ok {c x : Nat} (h : (nd3 3 c x && (nd3 4 c x && nd3 7 c x)) = true) : Nat.ble (Nat.gcd x (Nat.gcd c 84)) 2 = true := by
  rw [Bool.and_eq_true, Bool.and_eq_true] at h
  obtain ⟨h3, h4, h7⟩ := h
  have d1 : Nat.gcd x (Nat.gcd c 84) ∣ x := Nat.gcd_dvd_left _ _
  have d2 : Nat.gcd x (Nat.gcd c 84) ∣ c := Nat.dvd_trans (Nat.gcd_dvd_right _ _) (Nat.gcd_dvd_left _ _)
  have d3 : Nat.gcd x (Nat.gcd c 84) ∣ 84 := Nat.dvd_trans (Nat.gcd_dvd_right _ _) (Nat.gcd_dvd_right _ _)
  generalize Nat.gcd x (Nat.gcd c 84) = g at *
  by_cases z : g ≤ 2
  · exact Nat.ble_eq_true_of_le z
  · exfalso
    rcases gcd_84 g (Nat.le_of_dvd (by decide) d3) d3 z with y | y | y
    · exact nd3_no h3 (Nat.dvd_trans y d2) (Nat.dvd_trans y d1)
    · exact nd3_no h4 (Nat.dvd_trans y d2) (Nat.dvd_trans y d1)
    · exact nd3_no h7 (Nat.dvd_trans y d2) (Nat.dvd_trans y d1)
theorem mxG_ge {G n lo m : Nat} (c : Nat) (hn : n < 2048) : ((segL 11 n lo).filter (fun x => Nat.ble (Nat.gcd x G) 2 && decide (x * x % m = c))).length ≤ mxG G n lo m := by
  unfold mxG
  rw [frc_eq, frc_eq]
  simp only [shl_1, shr_d, pow_xx]
  exact mx_ge (fun x => Nat.ble (Nat.gcd x G) 2) (fun x => x * x % m) (k := 11) (n := n) (lo := lo) c hn (by omega) rfl
theorem aW_G {q : Bool} {c x : Nat} (h : aW q c x = true) : Nat.ble (Nat.gcd x (bif q then Nat.gcd c 84 else 1)) 2 = true := by
  unfold aW at h
  rw [Bool.and_eq_true] at h
  cases q with
  | true =>
    have h2 : (nd3 3 c x && (nd3 4 c x && nd3 7 c x)) = true := h.2
    exact gcd_ok h2
  | false =>
    show Nat.ble (Nat.gcd x 1) 2 = true
    rw [Nat.gcd_one_right]
    rfl
theorem mxQ_eq (c G : Nat) : mxQ c G = bif Nat.ble G 2 then mxS (c + 1 - loW c) (loW c) (4 * c) else mxG G (c + 1 - loW c) (loW c) (4 * c) := by
  unfold mxQ
  rw [frc_eq (fun lo => frc (mxS (Nat.sub (Nat.add c 1) lo) lo) (Nat.mul 4 c)), frc_eq (fun lo => frc (mxG G (Nat.sub (Nat.add c 1) lo) lo) (Nat.mul 4 c))]
  generalize loW c = lo
  rfl
theorem mW_ge (q : Bool) {a : Nat} (h : 0 < a ∧ a ≤ 1023) (c : Nat) : 2 * ((segL 11 (a + 1 - loW a) (loW a)).filter (fun x => aW q a x && decide (x * x % (4 * a) = c))).length ≤ mW q a := by
  refine Nat.mul_le_mul_left 2 ?_
  show _ ≤ mxQ a (bif q then Nat.gcd a 84 else 1)
  have hG : ∀ x, aW q a x = true → Nat.ble (Nat.gcd x (bif q then Nat.gcd a 84 else 1)) 2 = true := fun x hx => aW_G hx
  generalize (bif q then Nat.gcd a 84 else 1) = G at *
  rw [mxQ_eq]
  cases Nat.ble G 2 with
  | true =>
    rw [cond_true]
    refine Nat.le_trans (flt_le ?_) (mxS_ge (n := a + 1 - loW a) (lo := loW a) (m := 4 * a) c (by omega))
    intro x _ hx
    rw [Bool.and_eq_true] at hx
    rw [hx.2]
    rfl
  | false =>
    rw [cond_false]
    refine Nat.le_trans (flt_le ?_) (mxG_ge (G := G) (n := a + 1 - loW a) (lo := loW a) (m := 4 * a) c (by omega))
    intro x _ hx
    rw [Bool.and_eq_true] at hx
    rw [hx.2, hG x hx.1]
    rfl
theorem lgW_ge (c m : Nat) (hc : 0 < c) : 1024 ^ (16 * m) ≤ 2 ^ lgW c m * c ^ (16 * m) := by
  have e : lgW c m = Nat.log2 (1024 ^ (16 * m) / c ^ (16 * m)) + 1 := rfl
  rw [e]
  generalize 1024 ^ (16 * m) = X
  have hy : 0 < c ^ (16 * m) := Nat.pow_pos hc
  generalize c ^ (16 * m) = Y at *
  have h1 : X / Y < 2 ^ (Nat.log2 (X / Y) + 1) := Nat.lt_log2_self
  generalize 2 ^ (Nat.log2 (X / Y) + 1) = B at *
  have h2 : X < (X / Y + 1) * Y := by
    have := Nat.lt_mul_div_succ X hy
    rwa [Nat.mul_comm] at this
  exact Nat.le_trans (Nat.le_of_lt h2) (Nat.mul_le_mul_right Y h1)
theorem bW_ge (q : Bool) {c n : Nat} (hc : 0 < c ∧ c ≤ 1023) (h : n ≤ mW q c) : 1024 ^ (16 * n) ≤ 2 ^ bR q c * c ^ (16 * n) := by
  have e : bR q c = lgW c (mW q c) := rfl
  have h1 := lgW_ge c (mW q c) hc.1
  rw [e]
  generalize mW q c = m at *
  obtain ⟨k, rfl⟩ := Nat.exists_eq_add_of_le h
  have e1 : 1024 ^ (16 * (n + k)) = 1024 ^ (16 * n) * 1024 ^ (16 * k) := by rw [Nat.mul_add, Nat.pow_add]
  have e2 : c ^ (16 * (n + k)) = c ^ (16 * n) * c ^ (16 * k) := by rw [Nat.mul_add, Nat.pow_add]
  rw [e1, e2] at h1
  have h2 : c ^ (16 * k) ≤ 1024 ^ (16 * k) := Nat.pow_le_pow_left (by omega) _
  have h3 : 0 < c ^ (16 * k) := Nat.pow_pos hc.1
  generalize 2 ^ lgW c (n + k) = B at *
  generalize 1024 ^ (16 * n) = P at *
  generalize 1024 ^ (16 * k) = Q at *
  generalize c ^ (16 * n) = R at *
  generalize c ^ (16 * k) = S at *
  have h4 : P * S ≤ (B * R) * S := by
    refine Nat.le_trans (Nat.mul_le_mul_left P h2) (Nat.le_trans h1 (Nat.le_of_eq ?_))
    grind
  exact Nat.le_of_mul_le_mul_right h4 h3
/-- products of first numbers -/
def pL : List (Nat × Int) → Nat
  | [] => 1
  | z :: t => z.1 * pL t
theorem flt_up (n : Nat) : ∀ L : List (Nat × Int), (L.filter (fun z => decide (z.1 ≤ n + 1))).length = (L.filter (fun z => decide (z.1 ≤ n))).length + (L.filter (fun z => decide (z.1 = n + 1))).length ∧ pL (L.filter (fun z => decide (z.1 ≤ n + 1))) = pL (L.filter (fun z => decide (z.1 ≤ n))) * (n + 1) ^ (L.filter (fun z => decide (z.1 = n + 1))).length
  | [] => ⟨rfl, rfl⟩
  | z :: t => by
    obtain ⟨h1, h2⟩ := flt_up n t
    rcases Nat.lt_trichotomy z.1 (n + 1) with c | c | c
    · rw [List.filter_cons_of_pos (by simp; omega), List.filter_cons_of_pos (p := fun z : Nat × Int => decide (z.1 ≤ n)) (by simp; omega), List.filter_cons_of_neg (by simp; omega)]
      refine ⟨?_, ?_⟩
      · show _ + 1 = _ + 1 + _
        omega
      · show z.1 * pL _ = z.1 * pL _ * _
        rw [h2, Nat.mul_assoc]
    · rw [List.filter_cons_of_pos (by simp; omega), List.filter_cons_of_neg (p := fun z : Nat × Int => decide (z.1 ≤ n)) (by simp; omega), List.filter_cons_of_pos (by simp; omega)]
      refine ⟨?_, ?_⟩
      · show _ + 1 = _ + (_ + 1)
        omega
      · show z.1 * pL _ = pL _ * (n + 1) ^ (_ + 1)
        rw [h2, c, Nat.pow_succ, Nat.mul_comm (n + 1), Nat.mul_assoc]
    · rw [List.filter_cons_of_neg (by simp; omega), List.filter_cons_of_neg (p := fun z : Nat × Int => decide (z.1 ≤ n)) (by simp; omega), List.filter_cons_of_neg (by simp; omega)]
      exact ⟨h1, h2⟩
theorem flt_all : ∀ (n : Nat) (L : List (Nat × Int)), (∀ z, z ∈ L → z.1 ≤ n) → L.filter (fun z => decide (z.1 ≤ n)) = L := by
  intro n L h
  rw [List.filter_eq_self]
  intro z hz
  simpa using h z hz
theorem sWs_succ (q : Bool) (lo n : Nat) : sWs q lo (n + 1) = sWs q lo n + bR q (lo + n) := rfl
theorem cnt_all (q : Bool) {L : List (Nat × Int)} (h0 : ∀ z, z ∈ L → 0 < z.1) (hc : ∀ n, n < 1023 → (L.filter (fun z => decide (z.1 = n + 1))).length ≤ mW q (n + 1)) : ∀ n, n ≤ 1023 → 1024 ^ (16 * (L.filter (fun z => decide (z.1 ≤ n))).length) ≤ 2 ^ sWs q 1 n * pL (L.filter (fun z => decide (z.1 ≤ n))) ^ 16
  | 0, _ => by
    have e : L.filter (fun z => decide (z.1 ≤ 0)) = [] := by
      rw [List.filter_eq_nil_iff]
      intro z hz
      have := h0 z hz
      simp
      omega
    rw [e]
    exact Nat.le_refl _
  | n + 1, hn => by
    have ih := cnt_all q h0 hc n (by omega)
    obtain ⟨e1, e2⟩ := flt_up n L
    have h3 := bW_ge q (c := n + 1) (by omega) (hc n (by omega))
    rw [e1, e2, sWs_succ, Nat.add_comm 1 n]
    generalize (L.filter (fun z => decide (z.1 = n + 1))).length = k at *
    generalize (L.filter (fun z => decide (z.1 ≤ n))).length = l at *
    generalize pL (L.filter (fun z => decide (z.1 ≤ n))) = P at *
    rw [Nat.mul_add, Nat.pow_add, Nat.pow_add, Nat.mul_pow, ← Nat.pow_mul, Nat.mul_comm k 16]
    refine Nat.le_trans (Nat.mul_le_mul ih h3) (Nat.le_of_eq ?_)
    generalize (n + 1) ^ (16 * k) = X
    generalize 2 ^ bR q (n + 1) = Y
    generalize P ^ 16 = Z
    generalize 2 ^ sWs q 1 n = W
    grind
/-- middle numbers, allowed ones alone: those of one half -/
theorem half_cnt {d : Int} (q : Bool) {a : Nat} (ha : 0 < a ∧ a ≤ 1023) {l : List Int} (hnd : l.Nodup) (y : Int → Nat) (inj : ∀ b b', b ∈ l → b' ∈ l → y b = y b' → b = b') (h1 : ∀ b, b ∈ l → loW a ≤ y b ∧ aW q a (y b) = true) (h2 : ∀ b, b ∈ l → (4 * (a : Int)) ∣ (y b : Int) * y b - d) : l.length ≤ ((segL 11 (a + 1 - loW a) (loW a)).filter (fun x => aW q a x && decide (x * x % (4 * a) = (d % (4 * a)).toNat))).length := by
  have h3 := len_sub (l.map y) ((segL 11 (a + 1 - loW a) (loW a)).filter (fun x => aW q a x && decide (x * x % (4 * a) = (d % (4 * a)).toNat))) ?_ ?_
  · rwa [List.length_map] at h3
  · rw [List.Nodup, List.pairwise_map]
    refine List.Pairwise.imp_of_mem ?_ hnd
    intro b b' hb hb' hne z
    exact hne (inj b b' hb hb' z)
  · intro x hxm
    obtain ⟨b, hb, rfl⟩ := List.mem_map.1 hxm
    obtain ⟨p1, p2⟩ := h1 b hb
    have p3 : y b ≤ a := by
      unfold aW at p2
      rw [Bool.and_eq_true] at p2
      exact Nat.le_of_ble_eq_true p2.1
    refine List.mem_filter.2 ⟨(seg_mem 11 (a + 1 - loW a) (loW a) _ (show a + 1 - loW a < 2048 by omega)).2 ⟨p1, ?_⟩, ?_⟩
    · omega
    · rw [Bool.and_eq_true, decide_eq_true_eq]
      refine ⟨p2, ?_⟩
      have e : ((y b * y b % (4 * a) : Nat) : Int) = ((d % (4 * a)).toNat : Int) := by
        rw [Int.natCast_emod, Int.natCast_mul, Int.toNat_of_nonneg (Int.emod_nonneg _ (by omega))]
        have e4 : ((4 * a : Nat) : Int) = 4 * (a : Int) := by omega
        rw [e4]
        exact Int.emod_eq_emod_iff_emod_sub_eq_zero.2 (Int.emod_eq_zero_of_dvd (h2 b hb))
      omega
/-- what is asked of a middle number -/
def okB (q : Bool) (w : Int) (a : Nat) (b : Int) : Prop := (w - 2 * a < b ∧ b ≤ w ∧ 2 * (a : Int) - b ≤ w ∧ 0 < b) ∧ (q = true → ¬ (3 ∣ (a : Int) ∧ 3 ∣ b) ∧ ¬ (4 ∣ (a : Int) ∧ 4 ∣ b) ∧ ¬ (7 ∣ (a : Int) ∧ 7 ∣ b))
theorem nd3_of {p c x : Nat} (hp : 0 < p) (h : ¬ ((p : Int) ∣ (c : Int) ∧ (p : Int) ∣ (x : Int))) : nd3 p c x = true := by
  unfold nd3
  cases h1 : Nat.beq (Nat.mod c p) 0 with
  | false => rfl
  | true =>
    cases h2 : Nat.beq (Nat.mod x p) 0 with
    | false => rfl
    | true =>
      exfalso
      refine h ⟨Int.natCast_dvd_natCast.2 (Nat.dvd_of_mod_eq_zero (Nat.eq_of_beq_eq_true h1)), Int.natCast_dvd_natCast.2 (Nat.dvd_of_mod_eq_zero (Nat.eq_of_beq_eq_true h2))⟩
theorem aW_of {q : Bool} {c x : Nat} (h1 : x ≤ c) (h2 : q = true → ¬ (3 ∣ (c : Int) ∧ 3 ∣ (x : Int)) ∧ ¬ (4 ∣ (c : Int) ∧ 4 ∣ (x : Int)) ∧ ¬ (7 ∣ (c : Int) ∧ 7 ∣ (x : Int))) : aW q c x = true := by
  unfold aW
  rw [Nat.ble_eq_true_of_le h1, Bool.true_and]
  cases q with
  | false => rfl
  | true =>
    obtain ⟨a1, a2, a3⟩ := h2 rfl
    rw [nd3_of (p := 3) (by decide) a1, nd3_of (p := 4) (by decide) a2, nd3_of (p := 7) (by decide) a3]
    rfl
/-- the middle numbers of one last number -/
theorem win_cntW {d w : Int} (q : Bool) (hw : w ≤ 1023) {a : Nat} (ha : 0 < a ∧ a ≤ 1023) {l : List Int} (hnd : l.Nodup) (ho : ∀ b, b ∈ l → okB q w a b) (hd : ∀ b, b ∈ l → (4 * (a : Int)) ∣ b * b - d) : l.length ≤ mW q a := by
  have hlo : loW a = 2 * a - 1023 := rfl
  have hx0 : ∀ b : Int, 0 ≤ b % (2 * a) ∧ b % (2 * a) < 2 * a := fun b => ⟨Int.emod_nonneg _ (by omega), Int.emod_lt_of_pos _ (by omega)⟩
  have hinj : ∀ b b', b ∈ l → b' ∈ l → b % (2 * (a : Int)) = b' % (2 * (a : Int)) → b = b' := by
    intro b b' hb hb' z
    obtain ⟨q, hq⟩ : (2 * (a : Int)) ∣ b - b' := Int.dvd_of_emod_eq_zero (Int.emod_eq_emod_iff_emod_sub_eq_zero.1 z)
    have w1 := (ho b hb).1
    have w2 := (ho b' hb').1
    have q0 : q = 0 := by
      rcases Int.lt_trichotomy q 0 with y | y | y
      · have : 2 * (a : Int) * q ≤ 2 * (a : Int) * (-1) := Int.mul_le_mul_of_nonneg_left (by omega) (by omega)
        omega
      · exact y
      · have : 2 * (a : Int) * 1 ≤ 2 * (a : Int) * q := Int.mul_le_mul_of_nonneg_left (by omega) (by omega)
        omega
    rw [q0, Int.mul_zero] at hq
    omega
  -- a middle number and its remainder
  have dv : ∀ (b x : Int) (p : Int), p ∣ (2 * (a : Int)) → ((x = b % (2 * a)) ∨ (x = 2 * a - b % (2 * a))) → (p ∣ x ↔ p ∣ b) := by
    intro b x p hp hx
    obtain ⟨k, hk⟩ := hp
    have hm := Int.mul_ediv_add_emod b (2 * a)
    generalize b / (2 * (a : Int)) = Q at hm
    generalize b % (2 * (a : Int)) = r at hm hx
    rw [hk] at hm
    have e1 : p ∣ r ↔ p ∣ b := by
      constructor
      · rintro ⟨j, hj⟩
        exact ⟨k * Q + j, by rw [← hm, hj]; grind⟩
      · rintro ⟨j, hj⟩
        exact ⟨j - k * Q, by rw [hj] at hm; grind⟩
    rcases hx with rfl | rfl
    · exact e1
    · rw [← e1, hk]
      constructor
      · rintro ⟨j, hj⟩
        exact ⟨k - j, by grind⟩
      · rintro ⟨j, hj⟩
        exact ⟨k - j, by rw [hj]; grind⟩
  have al : ∀ (b x : Int), b ∈ l → ((x = b % (2 * a)) ∨ (x = 2 * a - b % (2 * a))) → q = true → ¬ (3 ∣ (a : Int) ∧ 3 ∣ x) ∧ ¬ (4 ∣ (a : Int) ∧ 4 ∣ x) ∧ ¬ (7 ∣ (a : Int) ∧ 7 ∣ x) := by
    intro b x hb hx hq
    obtain ⟨o1, o2, o3⟩ := (ho b hb).2 hq
    refine ⟨fun z => o1 ⟨z.1, (dv b x 3 (Int.dvd_mul_of_dvd_right z.1) hx).1 z.2⟩, fun z => o2 ⟨z.1, (dv b x 4 (Int.dvd_mul_of_dvd_right z.1) hx).1 z.2⟩, fun z => o3 ⟨z.1, (dv b x 7 (Int.dvd_mul_of_dvd_right z.1) hx).1 z.2⟩⟩
  have sq : ∀ (b x : Int), b ∈ l → ((x = b % (2 * a)) ∨ (x = 2 * a - b % (2 * a))) → (4 * (a : Int)) ∣ x * x - d := by
    intro b x hb hx
    obtain ⟨k, hk⟩ := hd b hb
    have hm := Int.mul_ediv_add_emod b (2 * a)
    generalize b / (2 * (a : Int)) = Q at hm
    generalize b % (2 * (a : Int)) = r at hm hx
    rw [← hm] at hk
    rcases hx with rfl | rfl
    · exact ⟨k - Q * x - a * Q * Q, by grind⟩
    · exact ⟨k - Q * r - a * Q * Q + a - r, by grind⟩
  have lo : ∀ b, b ∈ l → (loW a : Int) ≤ b % (2 * a) ∧ (loW a : Int) ≤ 2 * a - b % (2 * a) := by
    intro b hb
    have w1 := (ho b hb).1
    have x0 := hx0 b
    rcases Nat.lt_or_ge a 512 with z | z
    · omega
    · have e : b % (2 * (a : Int)) = b := Int.emod_eq_of_lt (by omega) (by omega)
      rw [e]
      omega
  have tn : ∀ x : Int, 0 ≤ x → ((x.toNat : Nat) : Int) = x := fun x hx => Int.toNat_of_nonneg hx
  have e := flt_split (fun b : Int => decide (b % (2 * (a : Int)) ≤ a)) l
  have h1 := half_cnt (d := d) q ha (l := l.filter (fun b : Int => decide (b % (2 * (a : Int)) ≤ a))) (hnd.filter _) (fun b => (b % (2 * (a : Int))).toNat) (fun b b' hb hb' z => hinj b b' (List.mem_filter.1 hb).1 (List.mem_filter.1 hb').1 (by
      have := hx0 b
      have := hx0 b'
      omega)) (fun b hb => by
      obtain ⟨b1, b2⟩ := List.mem_filter.1 hb
      rw [decide_eq_true_eq] at b2
      have x0 := hx0 b
      have l0 := lo b b1
      refine ⟨by omega, aW_of (by omega) ?_⟩
      rw [tn _ x0.1]
      exact al b _ b1 (Or.inl rfl)) (fun b hb => by
      rw [tn _ (hx0 b).1]
      exact sq b _ (List.mem_filter.1 hb).1 (Or.inl rfl))
  have h2 := half_cnt (d := d) q ha (l := l.filter (fun b : Int => !decide (b % (2 * (a : Int)) ≤ a))) (hnd.filter _) (fun b => (2 * (a : Int) - b % (2 * (a : Int))).toNat) (fun b b' hb hb' z => hinj b b' (List.mem_filter.1 hb).1 (List.mem_filter.1 hb').1 (by
      have := hx0 b
      have := hx0 b'
      omega)) (fun b hb => by
      obtain ⟨b1, b2⟩ := List.mem_filter.1 hb
      have b3 : ¬ b % (2 * (a : Int)) ≤ a := by simpa using b2
      have x0 := hx0 b
      have l0 := lo b b1
      refine ⟨by omega, aW_of (by omega) ?_⟩
      rw [tn _ (by omega)]
      exact al b _ b1 (Or.inr rfl)) (fun b hb => by
      rw [tn _ (by have := hx0 b; omega)]
      exact sq b _ (List.mem_filter.1 hb).1 (Or.inr rfl))
  have h3 := mW_ge q ha (d % (4 * a)).toNat
  omega
