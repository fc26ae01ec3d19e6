/-! contract: a root is lifted -/
theorem pr_pow_dvd {p q : Nat} (hq : Pr q) : ∀ k, q ∣ p ^ k → q ∣ p
  | 0, h => by
    rw [Nat.pow_zero] at h
    have := Nat.le_of_dvd (by decide) h
    have := hq.1
    omega
  | k + 1, h => by
    rw [Nat.pow_succ] at h
    rcases pr_mul hq h with z | z
    · exact pr_pow_dvd hq k z
    · exact z
theorem newton {y u v P Q : Int} (h1 : P ∣ y * y - u) (h2 : Q ∣ 2 * y * v - 1) (h3 : Q ∣ P * P) {y' : Int} (h4 : Q ∣ y' - (y - (y * y - u) * v)) : Q ∣ y' * y' - u := by
  obtain ⟨a, ha⟩ := h1
  obtain ⟨b, hb⟩ := h2
  obtain ⟨c, hc⟩ := h3
  obtain ⟨e, he⟩ := h4
  have hy : y' = y - (y * y - u) * v + Q * e := by omega
  have hw : (y * y - u) * (y * y - u) = Q * (c * (a * a)) := by
    rw [ha]
    have : P * a * (P * a) = (P * P) * (a * a) := by grind
    rw [this, hc]
    grind
  have hz : y' * y' - u = (y * y - u) * (1 - 2 * y * v) + ((y * y - u) * (y * y - u)) * (v * v) + Q * (2 * e * (y - (y * y - u) * v) + Q * e * e) := by
    rw [hy]
    grind
  have hv : 1 - 2 * y * v = Q * -b := by
    rw [Int.mul_neg]
    omega
  rw [hz, hw, hv]
  refine ⟨(y * y - u) * -b + c * (a * a) * (v * v) + (2 * e * (y - (y * y - u) * v) + Q * e * e), ?_⟩
  grind
abbrev l153 (r : Int64) (u p m : Int32) (y : Int64) (q k : Int32) (x9 x10 : Option Value) : mj_Ls := [some (.long r), none, some (.int u), some (.int p), some (.int m), some (.long y), none, some (.int q), some (.int k), x9, x10]
/-- FormHouse$Roots.lifted(JIII)J; cuts at [6, 9, 22, 38, 73, 79] -/
def cl_153_1 : List mj_E := (40, false, .lload 9, 2, 0, 0, 0, 0, 0) ::
  (42, false, .ldc2_w 93, 3, 0, 0, 0, 0, jL 2) ::
  (45, false, .lload 5, 2, 0, 0, 0, 0, 0) ::
  (47, false, .lmul, 1, 0, 0, 0, 0, 0) ::
  (48, false, .iload 7, 2, 0, 0, 0, 0, 0) ::
  (50, false, .i2l, 1, 0, 0, 0, 0, 0) ::
  (51, false, .lrem, 1, 0, 0, 0, 0, 0) ::
  (52, false, .iload 7, 2, 0, 0, 0, 0, 0) ::
  (54, false, .i2l, 1, 0, 0, 0, 0, 0) ::
  (55, false, .invokestatic 59, 3, 154, 2, 0, 0, 0) ::
  (58, false, .iload 7, 2, 0, 0, 0, 0, 0) ::
  (60, false, .i2l, 1, 0, 0, 0, 0, 0) ::
  (61, false, .invokestatic 62, 3, 152, 3, 0, 0, 0) ::
  (64, false, .lsub, 1, 0, 0, 0, 0, 0) ::
  (65, false, .iload 7, 2, 0, 0, 0, 0, 0) ::
  (67, false, .i2l, 1, 0, 0, 0, 0, 0) ::
  (68, false, .invokestatic 35, 3, 29, 2, 0, 0, 0) ::
  (71, false, .lstore 5, 2, 0, 0, 0, 0, 0) ::
  (73, true, .iinc 8 1, 3, 0, 0, 0, jI 1, 0) ::
  (76, false, .goto (-67), 3, 6, 0, 0, 0, 0) ::
  (79, true, .lload 5, 2, 0, 0, 0, 0, 0) ::
  (81, false, .lreturn, 1, 0, 0, 0, 0, 0) ::
  []
def cl_153_0 : List mj_E := (0, false, .lload_n 0, 1, 0, 0, 0, 0, 0) ::
  (1, false, .lstore 5, 2, 0, 0, 0, 0, 0) ::
  (3, false, .iload_n 3, 1, 0, 0, 0, 0, 0) ::
  (4, false, .istore 7, 2, 0, 0, 0, 0, 0) ::
  (6, true, .iconst 1, 1, 0, 0, 0, jI 1, 0) ::
  (7, false, .istore 8, 2, 0, 0, 0, 0, 0) ::
  (9, true, .iload 8, 2, 0, 0, 0, 0, 0) ::
  (11, false, .iload 4, 2, 0, 0, 0, 0, 0) ::
  (13, false, .if_icmp .ge 66, 3, 44, 0, 0, 0, 0) ::
  (16, false, .iload 7, 2, 0, 0, 0, 0, 0) ::
  (18, false, .iload_n 3, 1, 0, 0, 0, 0, 0) ::
  (19, false, .imul, 1, 0, 0, 0, 0, 0) ::
  (20, false, .istore 7, 2, 0, 0, 0, 0, 0) ::
  (22, true, .lload 5, 2, 0, 0, 0, 0, 0) ::
  (24, false, .lload 5, 2, 0, 0, 0, 0, 0) ::
  (26, false, .lmul, 1, 0, 0, 0, 0, 0) ::
  (27, false, .iload_n 2, 1, 0, 0, 0, 0, 0) ::
  (28, false, .i2l, 1, 0, 0, 0, 0, 0) ::
  (29, false, .lsub, 1, 0, 0, 0, 0, 0) ::
  (30, false, .iload 7, 2, 0, 0, 0, 0, 0) ::
  (32, false, .i2l, 1, 0, 0, 0, 0, 0) ::
  (33, false, .invokestatic 35, 3, 29, 2, 0, 0, 0) ::
  (36, false, .lstore 9, 2, 0, 0, 0, 0, 0) ::
  (38, true, .lload 5, 2, 0, 0, 0, 0, 0) ::
  cl_153_1
def cd_153 : List mj_E := cl_153_0
def cx_153 : mj_X := (2, [], [])
theorem tb_153 : mj_tab (mj_mt 153) cx_153 cd_153 mj_mh [(0, 0, 0), (0, 0, 0), (0, 0, 0), (0, 0, 0), (0, 0, 0), (0, 0, 0), (0, 0, 0), (0, 0, 0), (0, 0, 0), (0, 0, 0), (0, 0, 0), (0, 0, 0), (0, 0, 0), (0, 0, 0), (0, 0, 0), (0, 0, 0), (0, 0, 0), (0, 0, 0), (0, 0, 0), (0, 0, 0), (0, 0, 0), (6019, 0, 0), (0, 0, 0), (0, 0, 0), (0, 0, 0), (6047, 0, 0), (0, 0, 0), (0, 0, 0), (0, 0, 0), (0, 0, 0), (0, 0, 0), (0, 0, 0), (0, 0, 0), (6048, 0, 0), (0, 0, 0), (0, 0, 0), (6043, 0, 0), (0, 0, 0), (0, 0, 0), (0, 0, 0), (6019, 0, 0), (0, 0, 0), (0, 0, 0), (0, 0, 0), (0, 0, 0), (0, 0, 0)] = true := mj_tab_f (by decide +kernel)
theorem ct_153 (G : mj_G) {r u p m : Nat} (hp : Pr p) (h2 : p % 2 = 1) (hm : 0 < m) (hpm : p ^ m ≤ 4000000) (hr : r < p) (hu : u < 4000000) (hpu : ¬ p ∣ u) (hru : (p : Int) ∣ (r : Int) * r - u) (h : mj_H) : mj_Ct G (mj_mt 153) 0 0 [.long (jL r), .int (jI u), .int (jI p), .int (jI m)] h (fun o h' => h' = h ∧ ∃ y : Nat, o = .returned (some (.long (jL y))) ∧ y < p ^ m ∧ ((p ^ m : Nat) : Int) ∣ (y : Int) * y - u) := by
  have hp2 := hp.1
  have hple : p ≤ 4000000 := by
    have : p ^ 1 ≤ p ^ m := Nat.pow_le_pow_right (by omega) hm
    rw [Nat.pow_one] at this
    omega
  have hmb : m ≤ 22 := by
    rcases Nat.lt_or_ge 22 m with z | z
    · exfalso
      have h3 : 2 ^ 23 ≤ p ^ m := Nat.le_trans (Nat.pow_le_pow_right (by decide) z) (Nat.pow_le_pow_left hp2 _)
      have h5 : (2 : Nat) ^ 23 = 8388608 := by decide
      omega
    · exact z
  refine mj_Ct_of mj_ok tb_153 rfl rfl (Nat.le_of_ble_eq_true rfl) (fun Run hR => ?_)
  have loop : ∀ (t k y : Nat) (yL : Int64) (qI kI : Int32) (x9 x10 : Option Value), k + t = m → 1 ≤ k → y < p ^ k → ((p ^ k : Nat) : Int) ∣ (y : Int) * y - u → yL = jL y → qI = jI (p ^ k : Nat) → kI = jI k → Run 9 (l153 (jL r) (jI u) (jI p) (jI m) yL qI kI x9 x10) [] h (0, 0) := by
    intro t
    induction t with
    | zero =>
      rintro k y yL qI kI x9 x10 ht hk hy hd rfl rfl rfl
      refine hR 60 6 _ _ _ _ _ _ rfl ?_
      refine ⟨fun c => ?_, fun c => ?_⟩
      · have : k = m := by omega
        subst this
        refine hR 60 44 _ _ _ _ _ _ rfl ?_
        exact ⟨rfl, y, rfl, hy, hd⟩
      · simp (disch := omega) only [mj_lcm, jI_lt, jI_le, jI_eq, jL_lt, jL_le, jL_eq, jI_lt0, jI_0le, jI_0lt, jI_le0, jI_eq0, jL_eq0, jI_L, jI_add, jI_sub, jI_mul, jI_neg, jL_add, jL_sub, jL_mul, jL_neg, jL_I, jI_div, jI_mod, jL_div, jL_mod] at c
        omega
    | succ t ih =>
      rintro k y yL qI kI x9 x10 ht hk hy hd rfl rfl rfl
      have hq' : p ^ (k + 1) ≤ 4000000 := Nat.le_trans (Nat.pow_le_pow_right (by omega) (by omega)) hpm
      have hqk : p ^ k ≤ p ^ (k + 1) := Nat.pow_le_pow_right (by omega) (by omega)
      have hps : p ^ (k + 1) = p ^ k * p := Nat.pow_succ ..
      have hpk0 : 0 < p ^ k := Nat.pow_pos (by omega)
      have hdiv : ((p ^ (k + 1) : Nat) : Int) ∣ ((p ^ k : Nat) : Int) * ((p ^ k : Nat) : Int) := by
        rw [← Int.natCast_mul]
        refine Int.natCast_dvd_natCast.2 ?_
        rw [hps]
        refine Nat.mul_dvd_mul (Nat.dvd_refl _) ?_
        have : p ^ 1 ∣ p ^ k := Nat.pow_dvd_pow p hk
        rwa [Nat.pow_one] at this
      have hpd : (p : Int) ∣ (y : Int) * y - u := by
        refine Int.dvd_trans ?_ hd
        refine Int.natCast_dvd_natCast.2 ?_
        have : p ^ 1 ∣ p ^ k := Nat.pow_dvd_pow p hk
        rwa [Nat.pow_one] at this
      have hpy : ¬ p ∣ y := by
        rintro ⟨z, hz⟩
        apply hpu
        have h3 : (p : Int) ∣ (y : Int) * y := by
          rw [hz, Int.natCast_mul]
          exact ⟨z * (p * z), by grind⟩
        have h4 : (p : Int) ∣ (u : Int) := by
          have := Int.dvd_sub h3 hpd
          have e : (y : Int) * y - ((y : Int) * y - u) = u := by omega
          rwa [e] at this
        exact Int.natCast_dvd_natCast.1 h4
      have hcop : Nat.gcd (2 * y % p ^ (k + 1)) (p ^ (k + 1)) = 1 := by
        refine cop_of (Nat.pow_pos (by omega)) (fun q hq g1 g2 => ?_)
        have hqp := pr_pow_dvd hq (k + 1) g2
        have hqe : q = p := by
          rcases hp.2 q hqp with z | z
          · have := hq.1
            omega
          · exact z
        subst hqe
        have h3 : q ∣ 2 * y := (Nat.dvd_mod_iff g2).1 g1
        rcases pr_mul hq h3 with z | z
        · have := Nat.le_of_dvd (by decide) z
          omega
        · exact hpy z
      generalize hQ : p ^ (k + 1) = Q at *
      have hQ0 : 0 < Q := by omega
      have hyy : (y : Int) * y ≤ 4000000 * 4000000 := sq_le (by omega) (by omega)
      have hyy0 := sqn (y : Int)
      have hw0 : 0 ≤ ((y : Int) * y - u) % Q := Int.emod_nonneg _ (by omega)
      have hw1 : ((y : Int) * y - u) % Q < Q := Int.emod_lt_of_pos _ (by omega)
      have hwe := Int.emod_add_mul_ediv ((y : Int) * y - u) Q
      have r73 : ∀ (y' : Nat) (yL : Int64) (x9 x10 : Option Value), y' < Q → ((Q : Nat) : Int) ∣ (y' : Int) * y' - u → yL = jL y' → Run 73 (l153 (jL r) (jI u) (jI p) (jI m) yL (jI Q) (jI k) x9 x10) [] h (0, 0) := by
        rintro y' yL x9 x10 h3 h4 e
        refine hR 60 42 _ _ _ _ _ _ rfl ?_
        refine ih (k + 1) y' _ _ _ _ _ (by omega) (by omega) (by rw [hQ]; exact h3) (by rw [hQ]; exact h4) e (by rw [hQ]) (jI_add _ _)
      have iQ : (jI (Q : Int)).toInt64 = jL (Q : Int) := jI_L (by omega) (by omega)
      have r38 : ∀ (wL : Int64), wL = jL (((y : Int) * y - u) % Q) → Run 38 (l153 (jL r) (jI u) (jI p) (jI m) (jL y) (jI Q) (jI k) (some (.long wL)) none) [] h (0, 0) := by
        rintro wL rfl
        have emod : jL 2 * jL (y : Int) % (jI (Q : Int)).toInt64 = jL ((2 * y % Q : Nat) : Int) := by
          rw [iQ, jL_mul, jL_mod (by omega) (by omega) (by omega) (by omega)]
          rfl
        have hml := Nat.mod_lt (2 * y) hQ0
        have c154 := ct_154 G (a := ((2 * y % Q : Nat) : Int)) (n := Q) (by omega) (by omega) (by rw [Int.gcd_natCast_natCast]; exact hcop) h
        rw [← emod, ← iQ] at c154
        refine hR 60 23 _ _ _ _ _ _ rfl ?_
        refine ⟨?_, ?_⟩
        · rw [iQ]
          simp (disch := omega) only [mj_lcm, jI_lt, jI_le, jI_eq, jL_lt, jL_le, jL_eq, jI_lt0, jI_0le, jI_0lt, jI_le0, jI_eq0, jL_eq0, jI_L, jI_add, jI_sub, jI_mul, jI_neg, jL_add, jL_sub, jL_mul, jL_neg, jL_I, jI_div, jI_mod, jL_div, jL_mod]
          omega
        · refine jcallP c154 ?_
          rintro o h3 ⟨rfl, v, rfl, v0, v1, v2⟩
          have hwv : ((y : Int) * y - u) % Q * v ≤ 4000000 * 4000000 := Int.mul_le_mul (by omega) (by omega) v0 (by decide)
          have hwv0 : 0 ≤ ((y : Int) * y - u) % Q * v := Int.mul_nonneg hw0 v0
          have c152 := ct_152 G (a := ((y : Int) * y - u) % Q) (b := v) (n := Q) hwv0 (by omega) (by omega) (by omega) h3
          rw [← iQ] at c152
          refine jcall c152 ?_
          have t0 : 0 ≤ ((y : Int) * y - u) % Q * v % Q := Int.emod_nonneg _ (by omega)
          have t1 : ((y : Int) * y - u) % Q * v % Q < Q := Int.emod_lt_of_pos _ (by omega)
          have c29 := ct_29 G (x := (y : Int) - ((y : Int) * y - u) % Q * v % Q) (y := Q) (by omega) (by omega) (by omega) (by omega) h3
          rw [← jL_sub, ← iQ] at c29
          refine jcall c29 ?_
          have s0 : 0 ≤ ((y : Int) - ((y : Int) * y - u) % Q * v % Q) % Q := Int.emod_nonneg _ (by omega)
          have s1 : ((y : Int) - ((y : Int) * y - u) % Q * v % Q) % Q < Q := Int.emod_lt_of_pos _ (by omega)
          have hdd : ((Q : Nat) : Int) ∣ ((y : Int) - ((y : Int) * y - u) % Q * v % Q) % Q - ((y : Int) - ((y : Int) * y - u) * v) := by
            have a1 := Int.emod_add_mul_ediv ((y : Int) - ((y : Int) * y - u) % Q * v % Q) Q
            have a2 := Int.emod_add_mul_ediv (((y : Int) * y - u) % Q * v) Q
            generalize ((y : Int) - ((y : Int) * y - u) % Q * v % Q) / Q = z1 at a1
            generalize (((y : Int) * y - u) % Q * v) / Q = z2 at a2
            generalize ((y : Int) * y - u) / Q = z3 at hwe
            generalize ((y : Int) - ((y : Int) * y - u) % Q * v % Q) % Q = A1 at a1 ⊢
            generalize ((y : Int) * y - u) % Q * v % Q = A2 at a1 a2
            generalize ((y : Int) * y - u) % Q = A3 at a2 hwe
            refine ⟨z3 * v + z2 - z1, ?_⟩
            have b1 : A1 = (y : Int) - A2 - Q * z1 := by omega
            have b2 : A2 = A3 * v - Q * z2 := by omega
            have b3 : A3 = (y : Int) * y - u - Q * z3 := by omega
            rw [b1, b2, b3]
            grind
          have hv2 : ((Q : Nat) : Int) ∣ 2 * (y : Int) * v - 1 := by
            have a1 := Int.emod_add_mul_ediv (2 * (y : Int)) Q
            have e1 : ((2 * y % Q : Nat) : Int) = 2 * (y : Int) % Q := by rw [Int.natCast_emod, Int.natCast_mul]; rfl
            rw [e1] at v2
            generalize 2 * (y : Int) / Q = z at a1
            obtain ⟨w, hw⟩ := v2
            refine ⟨w + z * v, ?_⟩
            have : 2 * (y : Int) % Q = 2 * (y : Int) - Q * z := by omega
            rw [this] at hw
            grind
          have hfin := newton hd hv2 hdiv hdd
          obtain ⟨y', hy'⟩ : ∃ y' : Nat, (y' : Int) = ((y : Int) - ((y : Int) * y - u) % Q * v % Q) % Q := ⟨_, Int.toNat_of_nonneg s0⟩
          rw [← hy'] at hfin s1
          exact r73 y' _ _ _ (by omega) hfin (by rw [hy'])
      have r22 : ∀ (qI : Int32) (x9 x10 : Option Value), qI = jI Q → Run 22 (l153 (jL r) (jI u) (jI p) (jI m) (jL y) qI (jI k) x9 x10) [] h (0, 0) := by
        rintro qI x9 x10 rfl
        have c29 := ct_29 G (x := (y : Int) * y - u) (y := Q) (by omega) (by omega) (by omega) (by omega) h
        rw [← jL_sub, ← jL_mul, ← iQ, ← jI_L (a := (u : Int)) (by omega) (by omega)] at c29
        refine hR 60 13 _ _ _ _ _ _ rfl ?_
        refine jcall c29 ?_
        exact r38 _ rfl
      refine hR 60 6 _ _ _ _ _ _ rfl ?_
      refine ⟨fun c => ?_, fun c => ?_⟩
      · simp (disch := omega) only [mj_lcm, jI_lt, jI_le, jI_eq, jL_lt, jL_le, jL_eq, jI_lt0, jI_0le, jI_0lt, jI_le0, jI_eq0, jL_eq0, jI_L, jI_add, jI_sub, jI_mul, jI_neg, jL_add, jL_sub, jL_mul, jL_neg, jL_I, jI_div, jI_mod, jL_div, jL_mod] at c
        omega
      · refine r22 _ _ _ ?_
        rw [jI_mul, ← Int.natCast_mul, ← hps]
  have r6 : ∀ (x8 x9 x10 : Option Value), Run 6 [some (.long (jL r)), none, some (.int (jI u)), some (.int (jI p)), some (.int (jI m)), some (.long (jL r)), none, some (.int (jI p)), x8, x9, x10] [] h (0, 0) := by
    intro x8 x9 x10
    refine hR 60 4 _ _ _ _ _ _ rfl ?_
    refine loop (m - 1) 1 r _ _ _ _ _ (by omega) (by omega) (by rw [Nat.pow_one]; exact hr) (by rw [Nat.pow_one]; exact hru) rfl (by rw [Nat.pow_one]) rfl
  refine hR 60 0 _ _ _ _ _ _ rfl ?_
  exact r6 _ _ _
