/-! contracts: reckoning modulo a number -/
abbrev l154 (a n x y r s : Int64) (u1 u2 u3 u4 : Option Value) : mj_Ls := [some (.long a), none, some (.long n), none, some (.long x), none, some (.long y), none, some (.long r), none, some (.long s), none, u1, u2, u3, u4]
/-- FormHouse.inverted(JJ)J; cuts at [6, 12, 26, 36, 44, 54, 65, 81] -/
def cl_154_1 : List mj_E := (40, false, .lload 14, 2, 0, 0, 0, 0, 0) ::
  (42, false, .lstore 10, 2, 0, 0, 0, 0, 0) ::
  (44, true, .lload 4, 2, 0, 0, 0, 0, 0) ::
  (46, false, .lload 12, 2, 0, 0, 0, 0, 0) ::
  (48, false, .lload 6, 2, 0, 0, 0, 0, 0) ::
  (50, false, .lmul, 1, 0, 0, 0, 0, 0) ::
  (51, false, .lsub, 1, 0, 0, 0, 0, 0) ::
  (52, false, .lstore 14, 2, 0, 0, 0, 0, 0) ::
  (54, true, .lload 6, 2, 0, 0, 0, 0, 0) ::
  (56, false, .lstore 4, 2, 0, 0, 0, 0, 0) ::
  (58, false, .lload 14, 2, 0, 0, 0, 0, 0) ::
  (60, false, .lstore 6, 2, 0, 0, 0, 0, 0) ::
  (62, false, .goto (-50), 3, 8, 0, 0, 0, 0) ::
  (65, true, .lload 8, 2, 0, 0, 0, 0, 0) ::
  (67, false, .lconst 1, 1, 0, 0, 0, 0, jL 1) ::
  (68, false, .lcmp, 1, 0, 0, 0, 0, 0) ::
  (69, false, .ifCond .ne 12, 3, 45, 0, 0, 0, 0) ::
  (72, false, .lload 4, 2, 0, 0, 0, 0, 0) ::
  (74, false, .lload_n 2, 1, 0, 0, 0, 0, 0) ::
  (75, false, .invokestatic 7, 3, 29, 2, 0, 0, 0) ::
  (78, false, .goto 6, 3, 46, 0, 0, 0, 0) ::
  (81, true, .ldc2_w 13, 3, 0, 0, 0, 0, jL (-1)) ::
  (84, false, .lreturn, 1, 0, 0, 0, 0, 0) ::
  []
def cl_154_0 : List mj_E := (0, false, .lconst 1, 1, 0, 0, 0, 0, jL 1) ::
  (1, false, .lstore 4, 2, 0, 0, 0, 0, 0) ::
  (3, false, .lconst 0, 1, 0, 0, 0, 0, jL 0) ::
  (4, false, .lstore 6, 2, 0, 0, 0, 0, 0) ::
  (6, true, .lload_n 0, 1, 0, 0, 0, 0, 0) ::
  (7, false, .lstore 8, 2, 0, 0, 0, 0, 0) ::
  (9, false, .lload_n 2, 1, 0, 0, 0, 0, 0) ::
  (10, false, .lstore 10, 2, 0, 0, 0, 0, 0) ::
  (12, true, .lload 10, 2, 0, 0, 0, 0, 0) ::
  (14, false, .lconst 0, 1, 0, 0, 0, 0, jL 0) ::
  (15, false, .lcmp, 1, 0, 0, 0, 0, 0) ::
  (16, false, .ifCond .eq 49, 3, 37, 0, 0, 0, 0) ::
  (19, false, .lload 8, 2, 0, 0, 0, 0, 0) ::
  (21, false, .lload 10, 2, 0, 0, 0, 0, 0) ::
  (23, false, .ldiv, 1, 0, 0, 0, 0, 0) ::
  (24, false, .lstore 12, 2, 0, 0, 0, 0, 0) ::
  (26, true, .lload 8, 2, 0, 0, 0, 0, 0) ::
  (28, false, .lload 12, 2, 0, 0, 0, 0, 0) ::
  (30, false, .lload 10, 2, 0, 0, 0, 0, 0) ::
  (32, false, .lmul, 1, 0, 0, 0, 0, 0) ::
  (33, false, .lsub, 1, 0, 0, 0, 0, 0) ::
  (34, false, .lstore 14, 2, 0, 0, 0, 0, 0) ::
  (36, true, .lload 10, 2, 0, 0, 0, 0, 0) ::
  (38, false, .lstore 8, 2, 0, 0, 0, 0, 0) ::
  cl_154_1
def cd_154 : List mj_E := cl_154_0
def cx_154 : mj_X := (2, [], [])
theorem tb_154 : mj_tab (mj_mt 154) cx_154 cd_154 mj_mh [(0, 0, 0), (0, 0, 0), (0, 0, 0), (0, 0, 0), (0, 0, 0), (0, 0, 0), (0, 0, 0), (0, 0, 0), (0, 0, 0), (0, 0, 0), (0, 0, 0), (0, 0, 0), (0, 0, 0), (0, 0, 0), (0, 0, 0), (0, 0, 0), (0, 0, 0), (0, 0, 0), (0, 0, 0), (0, 0, 0), (0, 0, 0), (0, 0, 0), (0, 0, 0), (0, 0, 0), (0, 0, 0), (0, 0, 0), (0, 0, 0), (0, 0, 0), (0, 0, 0), (0, 0, 0), (0, 0, 0), (0, 0, 0), (0, 0, 0), (0, 0, 0), (0, 0, 0), (0, 0, 0), (0, 0, 0), (0, 0, 0), (0, 0, 0), (0, 0, 0), (0, 0, 0), (0, 0, 0), (0, 0, 0), (6051, 0, 0), (0, 0, 0), (6052, 0, 0), (0, 0, 0)] = true := mj_tab_f (by decide +kernel)
theorem ct_154 (G : mj_G) {a n : Int} (ha : 0 ≤ a ∧ a < 2147483648) (hn : 0 < n ∧ n < 2147483648) (hg : Int.gcd a n = 1) (h : mj_H) : mj_Ct G (mj_mt 154) 0 0 [.long (jL a), .long (jL n)] h (fun o h' => h' = h ∧ ∃ u : Int, o = .returned (some (.long (jL u))) ∧ 0 ≤ u ∧ u < n ∧ n ∣ a * u - 1) := by
  refine mj_Ct_of mj_ok tb_154 rfl rfl (Nat.le_of_ble_eq_true rfl) (fun Run hR => ?_)
  have r65 : ∀ (x r : Int) (yL sL : Int64) (u1 u2 u3 u4 : Option Value), 0 ≤ r → r.natAbs = 1 → n ∣ r - x * a → x.natAbs ≤ 2147483648 → Run 65 (l154 (jL a) (jL n) (jL x) yL (jL r) sL u1 u2 u3 u4) [] h (0, 0) := by
    intro x r yL sL u1 u2 u3 u4 h0 h1 h2 h3
    have hr1 : r = 1 := by omega
    subst hr1
    refine hR 60 37 _ _ _ _ _ _ rfl ?_
    refine ⟨fun c => ?_, fun c => absurd rfl c⟩
    refine jcall (ct_29 G (x := x) (y := n) (by omega) (by omega) hn.1 (by omega) h) ?_
    refine ⟨rfl, x % n, rfl, Int.emod_nonneg _ (by omega), Int.emod_lt_of_pos _ hn.1, ?_⟩
    have e := Int.emod_add_mul_ediv x n
    have e2 : a * (x % n) - 1 = -(1 - x * a) - n * (a * (x / n)) := by
      have : x % n = x - n * (x / n) := by omega
      rw [this]
      grind
    rw [e2]
    exact Int.dvd_sub (Int.dvd_neg.2 h2) (Int.dvd_mul_right _ _)
  have loop : ∀ (m : Nat) (x y r s : Int) (xL yL rL sL : Int64) (u1 u2 u3 u4 : Option Value), s.natAbs = m → 0 ≤ r → 0 ≤ s → r < 2147483648 → s < 2147483648 → Int.gcd r s = 1 → n ∣ r - x * a → n ∣ s - y * a → y.natAbs * r.natAbs + x.natAbs * s.natAbs ≤ n.natAbs → x.natAbs ≤ 2147483648 → y.natAbs ≤ 2147483648 → xL = jL x → yL = jL y → rL = jL r → sL = jL s → Run 12 (l154 (jL a) (jL n) xL yL rL sL u1 u2 u3 u4) [] h (0, 0) := by
    intro m
    induction m using Nat.strongRecOn with
    | _ m ih =>
      rintro x y r s xL yL rL sL u1 u2 u3 u4 hm hr0 hs0 hr1 hs1 hgc d1 d2 hb hx hy rfl rfl rfl rfl
      refine hR 60 8 _ _ _ _ _ _ rfl ?_
      refine ⟨fun c => ?_, fun c => ⟨?_, ?_⟩⟩
      · simp (disch := omega) only [mj_lcm, jI_lt, jI_le, jI_eq, jL_lt, jL_le, jL_eq, jI_lt0, jI_0le, jI_0lt, jI_le0, jI_eq0, jL_eq0, jI_L, jI_add, jI_sub, jI_mul, jI_neg, jL_add, jL_sub, jL_mul, jL_neg, jL_I, jI_div, jI_mod, jL_div, jL_mod] at c
        subst c
        rw [Int.gcd_zero_right] at hgc
        exact r65 x r _ _ _ _ _ _ hr0 hgc d1 hx
      · simp (disch := omega) only [mj_lcm, jI_lt, jI_le, jI_eq, jL_lt, jL_le, jL_eq, jI_lt0, jI_0le, jI_0lt, jI_le0, jI_eq0, jL_eq0, jI_L, jI_add, jI_sub, jI_mul, jI_neg, jL_add, jL_sub, jL_mul, jL_neg, jL_I, jI_div, jI_mod, jL_div, jL_mod] at c ⊢
        exact c
      · simp (disch := omega) only [mj_lcm, jI_lt, jI_le, jI_eq, jL_lt, jL_le, jL_eq, jI_lt0, jI_0le, jI_0lt, jI_le0, jI_eq0, jL_eq0, jI_L, jI_add, jI_sub, jI_mul, jI_neg, jL_add, jL_sub, jL_mul, jL_neg, jL_I, jI_div, jI_mod, jL_div, jL_mod] at c
        have hta := tdiv_abs r s
        have hgt := gcd_tstep r s
        have htl := tdiv_lt r c
        have hk : jL r / jL s = jL (r.tdiv s) := jL_div (by omega) (by omega) (by omega) (by omega)
        have ht0 : 0 ≤ r - r.tdiv s * s := by
          have h1 := Int.mul_tdiv_add_tmod r s
          have h2 : r - r.tdiv s * s = r.tmod s := by
            rw [Int.mul_comm]
            omega
          rw [h2, Int.tmod_eq_emod_of_nonneg hr0]
          exact Int.emod_nonneg _ c
        generalize r.tdiv s = k at hta hgt hk htl ht0
        have hst := euc_step (a := r) (b := s) (p := x) (q := y) (k := k) (t := r - k * s) (y := n) (by omega) hta hb
        have hy' : (x - k * y).natAbs ≤ 2147483648 := by
          have : (x - k * y).natAbs * 1 ≤ (x - k * y).natAbs * s.natAbs := Nat.mul_le_mul_left _ (by omega)
          omega
        have next : ∀ (v1 v2 v3 v4 : Option Value), Run 12 (l154 (jL a) (jL n) (jL y) (jL (x - k * y)) (jL s) (jL (r - k * s)) v1 v2 v3 v4) [] h (0, 0) := by
          intro v1 v2 v3 v4
          refine ih (r - k * s).natAbs (by omega) y (x - k * y) s (r - k * s) _ _ _ _ _ _ _ _ rfl hs0 ht0 hs1 (by omega) (hgt.trans hgc) d2 ?_ hst hy hy' rfl rfl rfl rfl
          have : r - k * s - (x - k * y) * a = (r - x * a) - k * (s - y * a) := by grind
          rw [this]
          exact Int.dvd_sub d1 (Int.dvd_mul_of_dvd_right d2)
        have r54 : ∀ (vL : Int64), vL = jL (x - k * y) → Run 54 (l154 (jL a) (jL n) (jL x) (jL y) (jL s) (jL (r - k * s)) (some (.long (jL k))) none (some (.long vL)) none) [] h (0, 0) := by
          rintro vL rfl
          refine hR 60 32 _ _ _ _ _ _ rfl ?_
          exact next _ _ _ _
        have r44 : ∀ (v3 v4 : Option Value), Run 44 (l154 (jL a) (jL n) (jL x) (jL y) (jL s) (jL (r - k * s)) (some (.long (jL k))) none v3 v4) [] h (0, 0) := by
          intro v3 v4
          refine hR 60 26 _ _ _ _ _ _ rfl ?_
          exact r54 _ (by rw [jL_mul, jL_sub])
        have r36 : ∀ (vL : Int64), vL = jL (r - k * s) → Run 36 (l154 (jL a) (jL n) (jL x) (jL y) (jL r) (jL s) (some (.long (jL k))) none (some (.long vL)) none) [] h (0, 0) := by
          rintro vL rfl
          refine hR 60 22 _ _ _ _ _ _ rfl ?_
          exact r44 _ _
        have r26 : ∀ (kL : Int64) (v3 v4 : Option Value), kL = jL k → Run 26 (l154 (jL a) (jL n) (jL x) (jL y) (jL r) (jL s) (some (.long kL)) none v3 v4) [] h (0, 0) := by
          rintro kL v3 v4 rfl
          refine hR 60 16 _ _ _ _ _ _ rfl ?_
          exact r36 _ (by rw [jL_mul, jL_sub])
        exact r26 _ _ _ hk
  have r6 : ∀ (v1 v2 v3 v4 u1 u2 u3 u4 : Option Value), Run 6 [some (.long (jL a)), none, some (.long (jL n)), none, some (.long (jL 1)), none, some (.long (jL 0)), none, v1, v2, v3, v4, u1, u2, u3, u4] [] h (0, 0) := by
    intro v1 v2 v3 v4 u1 u2 u3 u4
    refine hR 60 4 _ _ _ _ _ _ rfl ?_
    refine loop n.natAbs 1 0 a n _ _ _ _ _ _ _ _ rfl ha.1 (by omega) ha.2 hn.2 hg ⟨0, by omega⟩ ⟨1, by omega⟩ ?_ (by decide) (by decide) rfl rfl rfl rfl
    show 0 * a.natAbs + 1 * n.natAbs ≤ n.natAbs
    omega
  refine hR 60 0 _ _ _ _ _ _ rfl ?_
  exact r6 _ _ _ _ _ _ _ _
abbrev l151 (b e n p x l : Int64) : mj_Ls := [some (.long b), none, some (.long e), none, some (.long n), none, some (.long p), none, some (.long x), none, some (.long l), none]
/-- FormHouse.powered(JJJ)J; cuts at [6, 12, 39, 50, 59] -/
def cl_151_1 : List mj_E := (41, false, .lload 8, 2, 0, 0, 0, 0, 0) ::
  (43, false, .lload 4, 2, 0, 0, 0, 0, 0) ::
  (45, false, .invokestatic 1, 3, 152, 3, 0, 0, 0) ::
  (48, false, .lstore 8, 2, 0, 0, 0, 0, 0) ::
  (50, true, .lload 10, 2, 0, 0, 0, 0, 0) ::
  (52, false, .iconst 1, 1, 0, 0, 0, jI 1, 0) ::
  (53, false, .lshr, 1, 0, 0, 0, 0, 0) ::
  (54, false, .lstore 10, 2, 0, 0, 0, 0, 0) ::
  (56, false, .goto (-44), 3, 8, 0, 0, 0, 0) ::
  (59, true, .lload 6, 2, 0, 0, 0, 0, 0) ::
  (61, false, .lreturn, 1, 0, 0, 0, 0, 0) ::
  []
def cl_151_0 : List mj_E := (0, false, .lconst 1, 1, 0, 0, 0, 0, jL 1) ::
  (1, false, .lload 4, 2, 0, 0, 0, 0, 0) ::
  (3, false, .lrem, 1, 0, 0, 0, 0, 0) ::
  (4, false, .lstore 6, 2, 0, 0, 0, 0, 0) ::
  (6, true, .lload_n 0, 1, 0, 0, 0, 0, 0) ::
  (7, false, .lstore 8, 2, 0, 0, 0, 0, 0) ::
  (9, false, .lload_n 2, 1, 0, 0, 0, 0, 0) ::
  (10, false, .lstore 10, 2, 0, 0, 0, 0, 0) ::
  (12, true, .lload 10, 2, 0, 0, 0, 0, 0) ::
  (14, false, .lconst 0, 1, 0, 0, 0, 0, jL 0) ::
  (15, false, .lcmp, 1, 0, 0, 0, 0, 0) ::
  (16, false, .ifCond .le 43, 3, 33, 0, 0, 0, 0) ::
  (19, false, .lload 10, 2, 0, 0, 0, 0, 0) ::
  (21, false, .lconst 1, 1, 0, 0, 0, 0, jL 1) ::
  (22, false, .land, 1, 0, 0, 0, 0, 0) ::
  (23, false, .lconst 1, 1, 0, 0, 0, 0, jL 1) ::
  (24, false, .lcmp, 1, 0, 0, 0, 0, 0) ::
  (25, false, .ifCond .ne 14, 3, 23, 0, 0, 0, 0) ::
  (28, false, .lload 6, 2, 0, 0, 0, 0, 0) ::
  (30, false, .lload 8, 2, 0, 0, 0, 0, 0) ::
  (32, false, .lload 4, 2, 0, 0, 0, 0, 0) ::
  (34, false, .invokestatic 1, 3, 152, 3, 0, 0, 0) ::
  (37, false, .lstore 6, 2, 0, 0, 0, 0, 0) ::
  (39, true, .lload 8, 2, 0, 0, 0, 0, 0) ::
  cl_151_1
def cd_151 : List mj_E := cl_151_0
def cx_151 : mj_X := (2, [], [])
theorem tb_151 : mj_tab (mj_mt 151) cx_151 cd_151 mj_mh [(0, 0, 0), (0, 0, 0), (0, 0, 0), (0, 0, 0), (0, 0, 0), (0, 0, 0), (0, 0, 0), (0, 0, 0), (0, 0, 0), (0, 0, 0), (0, 0, 0), (0, 0, 0), (0, 0, 0), (0, 0, 0), (0, 0, 0), (0, 0, 0), (0, 0, 0), (0, 0, 0), (0, 0, 0), (0, 0, 0), (0, 0, 0), (6040, 0, 0), (0, 0, 0), (0, 0, 0), (0, 0, 0), (0, 0, 0), (6040, 0, 0), (0, 0, 0), (0, 0, 0), (0, 0, 0), (0, 0, 0), (0, 0, 0), (0, 0, 0), (0, 0, 0), (0, 0, 0)] = true := mj_tab_f (by decide +kernel)
theorem ct_151 (G : mj_G) {b e n : Nat} (hb : b < n) (hn : n < 2147483648) (he : e < 2147483648) (h : mj_H) : mj_Ct G (mj_mt 151) 0 0 [.long (jL b), .long (jL e), .long (jL n)] h (jR (.long (jL (b ^ e % n : Nat))) h) := by
  have hn0 : 0 < n := by omega
  refine mj_Ct_of mj_ok tb_151 rfl rfl (Nat.le_of_ble_eq_true rfl) (fun Run hR => ?_)
  have mulp : ∀ {x y : Nat}, x < n → y < n → mj_Ct G (mj_mt 152) 0 0 [.long (jL x), .long (jL y), .long (jL n)] h (jR (.long (jL (x * y % n : Nat))) h) := by
    intro x y hx hy
    have h1 : x * y ≤ n * n := Nat.mul_le_mul (by omega) (by omega)
    have h2 : n * n ≤ 2147483648 * 2147483648 := Nat.mul_le_mul (by omega) (by omega)
    have h3 : ((x * y : Nat) : Int) = (x : Int) * y := Int.natCast_mul ..
    have := ct_152 G (a := x) (b := y) (n := n) (by omega) (by omega) (by omega) (by omega) h
    rw [← h3] at this
    exact this
  have r12 : ∀ (t P X l : Nat) (pL xL lL : Int64), l ≤ t → l < 2147483648 → P < n → X < n → (P * X ^ l) % n = b ^ e % n → pL = jL P → xL = jL X → lL = jL l → Run 12 (l151 (jL b) (jL e) (jL n) pL xL lL) [] h (0, 0) := by
    intro t
    have base : ∀ (P X l : Nat), l = 0 → P < n → (P * X ^ l) % n = b ^ e % n → Run 12 (l151 (jL b) (jL e) (jL n) (jL P) (jL X) (jL l)) [] h (0, 0) := by
      rintro P X l rfl hP hm
      refine hR 60 8 _ _ _ _ _ _ rfl ?_
      refine ⟨fun c => ?_, fun c => ?_⟩
      · refine hR 60 33 _ _ _ _ _ _ rfl ?_
        refine jRe ?_
        rw [Nat.pow_zero, Nat.mul_one, Nat.mod_eq_of_lt hP] at hm
        rw [hm]
      · simp (disch := omega) only [mj_lcm, jI_lt, jI_le, jI_eq, jL_lt, jL_le, jL_eq, jI_lt0, jI_0le, jI_0lt, jI_le0, jI_eq0, jL_eq0, jI_L, jI_add, jI_sub, jI_mul, jI_neg, jL_add, jL_sub, jL_mul, jL_neg, jL_I, jI_div, jI_mod, jL_div, jL_mod] at c
        omega
    induction t with
    | zero =>
      rintro P X l pL xL lL ht hl hP hX hm rfl rfl rfl
      exact base P X l (by omega) hP hm
    | succ t ih =>
      rintro P X l pL xL lL ht hl hP hX hm rfl rfl rfl
      by_cases l0 : l = 0
      · exact base P X l l0 hP hm
      · have e1 : jL (l : Int) &&& jL 1 = jL ((l : Int) % 2) := jL_mask (k := 1) (by decide) rfl
        have esh : jL (l : Int) >>> ((jI 1).toInt64 &&& 63) = jL ((l / 2 : Nat) : Int) := by
          rw [jL_shr (K := 1) 1 (by decide) rfl (by omega) (by omega)]
          congr 1
        have r50 : ∀ (P' X' : Nat), P' < n → X' < n → (P' * X' ^ (l / 2)) % n = b ^ e % n → Run 50 (l151 (jL b) (jL e) (jL n) (jL P') (jL X') (jL l)) [] h (0, 0) := by
          intro P' X' hP' hX' hm'
          refine hR 60 28 _ _ _ _ _ _ rfl ?_
          exact ih P' X' (l / 2) _ _ _ (by omega) (by omega) hP' hX' hm' rfl rfl esh
        have r39 : ∀ (P' : Nat), P' < n → (P' * (X * X % n) ^ (l / 2)) % n = b ^ e % n → Run 39 (l151 (jL b) (jL e) (jL n) (jL P') (jL X) (jL l)) [] h (0, 0) := by
          intro P' hP' hm'
          refine hR 60 23 _ _ _ _ _ _ rfl ?_
          refine jcall (mulp hX hX) ?_
          exact r50 P' _ hP' (Nat.mod_lt _ hn0) hm'
        rw [pow_half] at hm
        refine hR 60 8 _ _ _ _ _ _ rfl ?_
        refine ⟨fun c => ?_, fun c => ⟨fun c2 => ?_, fun c2 => ?_⟩⟩
        · simp (disch := omega) only [mj_lcm, jI_lt, jI_le, jI_eq, jL_lt, jL_le, jL_eq, jI_lt0, jI_0le, jI_0lt, jI_le0, jI_eq0, jL_eq0, jI_L, jI_add, jI_sub, jI_mul, jI_neg, jL_add, jL_sub, jL_mul, jL_neg, jL_I, jI_div, jI_mod, jL_div, jL_mod] at c
          omega
        · rw [e1] at c2
          simp (disch := omega) only [mj_lcm, jI_lt, jI_le, jI_eq, jL_lt, jL_le, jL_eq, jI_lt0, jI_0le, jI_0lt, jI_le0, jI_eq0, jL_eq0, jI_L, jI_add, jI_sub, jI_mul, jI_neg, jL_add, jL_sub, jL_mul, jL_neg, jL_I, jI_div, jI_mod, jL_div, jL_mod] at c2
          rw [if_pos (by omega)] at hm
          refine jcall (mulp hP hX) ?_
          exact r39 _ (Nat.mod_lt _ hn0) hm
        · rw [e1] at c2
          simp (disch := omega) only [mj_lcm, jI_lt, jI_le, jI_eq, jL_lt, jL_le, jL_eq, jI_lt0, jI_0le, jI_0lt, jI_le0, jI_eq0, jL_eq0, jI_L, jI_add, jI_sub, jI_mul, jI_neg, jL_add, jL_sub, jL_mul, jL_neg, jL_I, jI_div, jI_mod, jL_div, jL_mod] at c2
          rw [if_neg (by omega)] at hm
          exact r39 P hP hm
  have r6 : ∀ (pL : Int64) (x8 x9 x10 x11 : Option Value), pL = jL ((1 % n : Nat) : Int) → Run 6 [some (.long (jL b)), none, some (.long (jL e)), none, some (.long (jL n)), none, some (.long pL), none, x8, x9, x10, x11] [] h (0, 0) := by
    rintro pL x8 x9 x10 x11 rfl
    refine hR 60 4 _ _ _ _ _ _ rfl ?_
    refine r12 e (1 % n) b e _ _ _ (Nat.le_refl _) he (Nat.mod_lt _ hn0) hb ?_ rfl rfl rfl
    rw [Nat.mul_mod, Nat.mod_mod, ← Nat.mul_mod, Nat.one_mul]
  refine hR 60 0 _ _ _ _ _ _ rfl ?_
  refine ⟨?_, ?_⟩
  · simp (disch := omega) only [mj_lcm, jI_lt, jI_le, jI_eq, jL_lt, jL_le, jL_eq, jI_lt0, jI_0le, jI_0lt, jI_le0, jI_eq0, jL_eq0, jI_L, jI_add, jI_sub, jI_mul, jI_neg, jL_add, jL_sub, jL_mul, jL_neg, jL_I, jI_div, jI_mod, jL_div, jL_mod]
    omega
  · refine r6 _ _ _ _ _ ?_
    rw [jL_mod (by decide) (by decide) (by omega) (by omega)]
    rfl
