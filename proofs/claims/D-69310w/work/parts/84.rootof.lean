/-! contract: a root of a square modulo a prime -/
theorem non_ex {p : Nat} (hp : Pr p) (h2 : p % 2 = 1) : ∃ v : Nat, 1 ≤ v ∧ v < p ∧ legN v p = -1 := by
  by_cases h : ∃ v : Nat, 1 ≤ v ∧ v < p ∧ legN v p = -1
  · exact h
  exfalso
  have hp2 := hp.1
  have hh : 0 < p / 2 := by omega
  have hpd : PD (p / 2) (fun x => x ^ (p / 2) - 1) 1 := by
    obtain ⟨n, hn⟩ : ∃ n, p / 2 = n + 1 := ⟨p / 2 - 1, by omega⟩
    rw [hn]
    refine ⟨-1, fun x => x ^ n, pd_pow n, fun x => ?_⟩
    show x ^ (n + 1) - 1 = -1 + x * x ^ n
    rw [Int.pow_succ, Int.mul_comm]
    omega
  refine pd_roots hp _ _ _ hpd ?_ (fun i => ((i + 1 : Nat) : Int)) ?_ ?_
  · intro hd
    have := Int.le_of_dvd (by decide) hd
    omega
  · intro i j hij hj hd
    try simp only at hd
    have k2 := Int.le_of_dvd (by omega) (Int.dvd_neg.2 hd)
    omega
  · intro i hi
    have hnd : ¬ p ∣ (i + 1) := fun z => by
      have := Nat.le_of_dvd (by omega) z
      omega
    have hg := gauss_pow hp h2 hnd
    have hl : sgN (muN (i + 1) p) = 1 := by
      rcases sgN_pm (muN (i + 1) p) with g | g
      · exact g
      · refine absurd ⟨i + 1, by omega, by omega, ?_⟩ h
        unfold legN
        rw [if_neg (by rw [Nat.mod_eq_of_lt (by omega)]; omega)]
        exact g
    rw [hl] at hg
    exact hg
theorem kro_pr {p : Nat} (hp : 0 < p) (v : Nat) : kro v p 0 [p] = legN v p := by
  unfold kro
  rw [if_neg (by omega), Int.one_mul, Int.pow_zero, Int.one_mul]
  show legN ((v : Int) % ((p * 1 : Nat) : Int)).toNat p * 1 = _
  rw [Nat.mul_one, Int.mul_one, ← Int.natCast_emod, Int.toNat_natCast, leg_mod]
theorem allP_one {p : Nat} (hp : Pr p) (h2 : p % 2 = 1) : allP [p] := by
  intro q hq
  rw [List.mem_singleton.1 hq]
  exact ⟨hp, h2⟩
theorem sq_pow (x : Int) (k : Nat) : (x ^ (2 ^ k)) * (x ^ (2 ^ k)) = x ^ (2 ^ (k + 1)) := by
  rw [← Int.pow_add]
  congr 1
  rw [Nat.pow_succ]
  omega
theorem ts_step {p : Nat} (hp : Pr p) {c t r u b c' r' t' : Int} {s i : Nat} (hi : 1 ≤ i) (his : i < s) (h1 : (p : Int) ∣ c ^ 2 ^ (s - 1) + 1) (h2 : (p : Int) ∣ t ^ 2 ^ i - 1) (h3 : ¬ (p : Int) ∣ t ^ 2 ^ (i - 1) - 1) (h4 : (p : Int) ∣ r * r - u * t) (hb : (p : Int) ∣ b - c ^ 2 ^ (s - i - 1)) (hc : (p : Int) ∣ c' - b * b) (hr : (p : Int) ∣ r' - r * b) (ht : (p : Int) ∣ t' - t * c') : (p : Int) ∣ c' ^ 2 ^ (i - 1) + 1 ∧ (p : Int) ∣ t' ^ 2 ^ (i - 1) - 1 ∧ (p : Int) ∣ r' * r' - u * t' := by
  obtain ⟨j, rfl⟩ : ∃ j, i = j + 1 := ⟨i - 1, by omega⟩
  rw [Nat.add_sub_cancel] at h3 ⊢
  have hT : (p : Int) ∣ t ^ 2 ^ j + 1 := by
    rw [← sq_pow] at h2
    have e : t ^ 2 ^ j * t ^ 2 ^ j - 1 = (t ^ 2 ^ j - 1) * (t ^ 2 ^ j + 1) := by grind
    rw [e] at h2
    rcases pr_mulI hp h2 with z | z
    · exact absurd z h3
    · exact z
  have hcc : (p : Int) ∣ c' - c ^ 2 ^ (s - (j + 1)) := by
    have e : c ^ 2 ^ (s - (j + 1)) = c ^ 2 ^ (s - (j + 1) - 1) * c ^ 2 ^ (s - (j + 1) - 1) := by
      rw [sq_pow]
      congr 2
      omega
    rw [e]
    generalize c ^ 2 ^ (s - (j + 1) - 1) = d at hb
    have e2 : c' - d * d = (c' - b * b) + (b - d) * (b + d) := by grind
    rw [e2]
    exact Int.dvd_add hc (Int.dvd_mul_of_dvd_left hb)
  have hC : (p : Int) ∣ c' ^ 2 ^ j + 1 := by
    have h5 := pow_dvd hcc (2 ^ j)
    rw [← Int.pow_mul, ← Nat.pow_add, show s - (j + 1) + j = s - 1 by omega] at h5
    have e : c' ^ 2 ^ j + 1 = (c' ^ 2 ^ j - c ^ 2 ^ (s - 1)) + (c ^ 2 ^ (s - 1) + 1) := by omega
    rw [e]
    exact Int.dvd_add h5 h1
  refine ⟨hC, ?_, ?_⟩
  · have h5 := pow_dvd ht (2 ^ j)
    rw [Int.mul_pow] at h5
    generalize t ^ 2 ^ j = T at h5 hT
    generalize c' ^ 2 ^ j = C at h5 hC
    generalize t' ^ 2 ^ j = X at h5
    have e : X - 1 = (X - T * C) + ((T + 1) * C - (C + 1)) := by grind
    rw [e]
    exact Int.dvd_add h5 (Int.dvd_sub (Int.dvd_mul_of_dvd_left hT) hC)
  · obtain ⟨z1, e1⟩ := hr
    obtain ⟨z2, e2⟩ := h4
    obtain ⟨z3, e3⟩ := hc
    obtain ⟨z4, e4⟩ := ht
    refine ⟨z1 * (r' + r * b) + z2 * (b * b) - u * t * z3 - u * z4, ?_⟩
    grind
theorem pow_md {p x k : Nat} : (p : Int) ∣ ((x ^ k % p : Nat) : Int) - (x : Int) ^ k := by
  have := Int.emod_add_mul_ediv ((x : Int) ^ k) p
  rw [Int.natCast_emod, Int.natCast_pow]
  exact ⟨-((x : Int) ^ k / p), by rw [Int.mul_neg]; omega⟩
theorem mul_md {p x y : Nat} : (p : Int) ∣ ((x * y % p : Nat) : Int) - (x : Int) * y := by
  have := Int.emod_add_mul_ediv ((x : Int) * y) p
  rw [Int.natCast_emod, Int.natCast_mul]
  exact ⟨-((x : Int) * y / p), by rw [Int.mul_neg]; omega⟩
abbrev l150 (u p q s v : Int32) (c r t : Int64) (x11 x12 x13 x14 : Option Value) : mj_Ls := [some (.int u), some (.int p), some (.int q), some (.int s), some (.int v), some (.long c), none, some (.long r), none, some (.long t), none, x11, x12, x13, x14]
/-- FormHouse$Roots.rootOf(II)J; cuts at [6, 25, 69, 80, 94, 125, 175] -/
def cl_150_4 : List mj_E := (158, false, .i2l, 1, 0, 0, 0, 0, 0) ::
  (159, false, .invokestatic 62, 3, 152, 3, 0, 0, 0) ::
  (162, false, .lstore 5, 2, 0, 0, 0, 0, 0) ::
  (164, false, .lload 7, 2, 0, 0, 0, 0, 0) ::
  (166, false, .lload 12, 2, 0, 0, 0, 0, 0) ::
  (168, false, .iload_n 1, 1, 0, 0, 0, 0, 0) ::
  (169, false, .i2l, 1, 0, 0, 0, 0, 0) ::
  (170, false, .invokestatic 62, 3, 152, 3, 0, 0, 0) ::
  (173, false, .lstore 7, 2, 0, 0, 0, 0, 0) ::
  (175, true, .lload 9, 2, 0, 0, 0, 0, 0) ::
  (177, false, .lload 5, 2, 0, 0, 0, 0, 0) ::
  (179, false, .iload_n 1, 1, 0, 0, 0, 0, 0) ::
  (180, false, .i2l, 1, 0, 0, 0, 0, 0) ::
  (181, false, .invokestatic 62, 3, 152, 3, 0, 0, 0) ::
  (184, false, .lstore 9, 2, 0, 0, 0, 0, 0) ::
  (186, false, .iload 11, 2, 0, 0, 0, 0, 0) ::
  (188, false, .istore_n 3, 1, 0, 0, 0, 0, 0) ::
  (189, false, .goto (-109), 3, 54, 0, 0, 0, 0) ::
  (192, false, .lload 7, 2, 0, 0, 0, 0, 0) ::
  (194, false, .lreturn, 1, 0, 0, 0, 0, 0) ::
  []
def cl_150_3 : List mj_E := (113, false, .lstore 12, 2, 0, 0, 0, 0, 0) ::
  (115, false, .goto (-21), 3, 62, 0, 0, 0, 0) ::
  (118, false, .lload 5, 2, 0, 0, 0, 0, 0) ::
  (120, false, .lstore 12, 2, 0, 0, 0, 0, 0) ::
  (122, false, .iconst 0, 1, 0, 0, 0, jI 0, 0) ::
  (123, false, .istore 14, 2, 0, 0, 0, 0, 0) ::
  (125, true, .iload 14, 2, 0, 0, 0, 0, 0) ::
  (127, false, .iload_n 3, 1, 0, 0, 0, 0, 0) ::
  (128, false, .iload 11, 2, 0, 0, 0, 0, 0) ::
  (130, false, .isub, 1, 0, 0, 0, 0, 0) ::
  (131, false, .iconst 1, 1, 0, 0, 0, jI 1, 0) ::
  (132, false, .isub, 1, 0, 0, 0, 0, 0) ::
  (133, false, .if_icmp .ge 20, 3, 93, 0, 0, 0, 0) ::
  (136, false, .lload 12, 2, 0, 0, 0, 0, 0) ::
  (138, false, .lload 12, 2, 0, 0, 0, 0, 0) ::
  (140, false, .iload_n 1, 1, 0, 0, 0, 0, 0) ::
  (141, false, .i2l, 1, 0, 0, 0, 0, 0) ::
  (142, false, .invokestatic 62, 3, 152, 3, 0, 0, 0) ::
  (145, false, .lstore 12, 2, 0, 0, 0, 0, 0) ::
  (147, false, .iinc 14 1, 3, 0, 0, 0, jI 1, 0) ::
  (150, false, .goto (-25), 3, 78, 0, 0, 0, 0) ::
  (153, false, .lload 12, 2, 0, 0, 0, 0, 0) ::
  (155, false, .lload 12, 2, 0, 0, 0, 0, 0) ::
  (157, false, .iload_n 1, 1, 0, 0, 0, 0, 0) ::
  cl_150_4
def cl_150_2 : List mj_E := (71, false, .iload_n 2, 1, 0, 0, 0, 0, 0) ::
  (72, false, .i2l, 1, 0, 0, 0, 0, 0) ::
  (73, false, .iload_n 1, 1, 0, 0, 0, 0, 0) ::
  (74, false, .i2l, 1, 0, 0, 0, 0, 0) ::
  (75, false, .invokestatic 90, 3, 151, 3, 0, 0, 0) ::
  (78, false, .lstore 9, 2, 0, 0, 0, 0, 0) ::
  (80, true, .lload 9, 2, 0, 0, 0, 0, 0) ::
  (82, false, .lconst 1, 1, 0, 0, 0, 0, jL 1) ::
  (83, false, .lcmp, 1, 0, 0, 0, 0, 0) ::
  (84, false, .ifCond .eq 108, 3, 114, 0, 0, 0, 0) ::
  (87, false, .iconst 0, 1, 0, 0, 0, jI 0, 0) ::
  (88, false, .istore 11, 2, 0, 0, 0, 0, 0) ::
  (90, false, .lload 9, 2, 0, 0, 0, 0, 0) ::
  (92, false, .lstore 12, 2, 0, 0, 0, 0, 0) ::
  (94, true, .lload 12, 2, 0, 0, 0, 0, 0) ::
  (96, false, .lconst 1, 1, 0, 0, 0, 0, jL 1) ::
  (97, false, .lcmp, 1, 0, 0, 0, 0, 0) ::
  (98, false, .ifCond .eq 20, 3, 74, 0, 0, 0, 0) ::
  (101, false, .iinc 11 1, 3, 0, 0, 0, jI 1, 0) ::
  (104, false, .lload 12, 2, 0, 0, 0, 0, 0) ::
  (106, false, .lload 12, 2, 0, 0, 0, 0, 0) ::
  (108, false, .iload_n 1, 1, 0, 0, 0, 0, 0) ::
  (109, false, .i2l, 1, 0, 0, 0, 0, 0) ::
  (110, false, .invokestatic 62, 3, 152, 3, 0, 0, 0) ::
  cl_150_3
def cl_150_1 : List mj_E := (36, false, .iinc 4 1, 3, 0, 0, 0, jI 1, 0) ::
  (39, false, .goto (-14), 3, 18, 0, 0, 0, 0) ::
  (42, false, .iload 4, 2, 0, 0, 0, 0, 0) ::
  (44, false, .i2l, 1, 0, 0, 0, 0, 0) ::
  (45, false, .iload_n 2, 1, 0, 0, 0, 0, 0) ::
  (46, false, .i2l, 1, 0, 0, 0, 0, 0) ::
  (47, false, .iload_n 1, 1, 0, 0, 0, 0, 0) ::
  (48, false, .i2l, 1, 0, 0, 0, 0, 0) ::
  (49, false, .invokestatic 90, 3, 151, 3, 0, 0, 0) ::
  (52, false, .lstore 5, 2, 0, 0, 0, 0, 0) ::
  (54, false, .iload_n 0, 1, 0, 0, 0, 0, 0) ::
  (55, false, .i2l, 1, 0, 0, 0, 0, 0) ::
  (56, false, .iload_n 2, 1, 0, 0, 0, 0, 0) ::
  (57, false, .iconst 1, 1, 0, 0, 0, jI 1, 0) ::
  (58, false, .iadd, 1, 0, 0, 0, 0, 0) ::
  (59, false, .iconst 2, 1, 0, 0, 0, jI 2, 0) ::
  (60, false, .idiv, 1, 0, 0, 0, 0, 0) ::
  (61, false, .i2l, 1, 0, 0, 0, 0, 0) ::
  (62, false, .iload_n 1, 1, 0, 0, 0, 0, 0) ::
  (63, false, .i2l, 1, 0, 0, 0, 0, 0) ::
  (64, false, .invokestatic 90, 3, 151, 3, 0, 0, 0) ::
  (67, false, .lstore 7, 2, 0, 0, 0, 0, 0) ::
  (69, true, .iload_n 0, 1, 0, 0, 0, 0, 0) ::
  (70, false, .i2l, 1, 0, 0, 0, 0, 0) ::
  cl_150_2
def cl_150_0 : List mj_E := (0, false, .iload_n 1, 1, 0, 0, 0, 0, 0) ::
  (1, false, .iconst 1, 1, 0, 0, 0, jI 1, 0) ::
  (2, false, .isub, 1, 0, 0, 0, 0, 0) ::
  (3, false, .istore_n 2, 1, 0, 0, 0, 0, 0) ::
  (4, false, .iconst 0, 1, 0, 0, 0, jI 0, 0) ::
  (5, false, .istore_n 3, 1, 0, 0, 0, 0, 0) ::
  (6, true, .iload_n 2, 1, 0, 0, 0, 0, 0) ::
  (7, false, .iconst 2, 1, 0, 0, 0, jI 2, 0) ::
  (8, false, .irem, 1, 0, 0, 0, 0, 0) ::
  (9, false, .ifCond .ne 13, 3, 16, 0, 0, 0, 0) ::
  (12, false, .iload_n 2, 1, 0, 0, 0, 0, 0) ::
  (13, false, .iconst 2, 1, 0, 0, 0, jI 2, 0) ::
  (14, false, .idiv, 1, 0, 0, 0, 0, 0) ::
  (15, false, .istore_n 2, 1, 0, 0, 0, 0, 0) ::
  (16, false, .iinc 3 1, 3, 0, 0, 0, jI 1, 0) ::
  (19, false, .goto (-13), 3, 6, 0, 0, 0, 0) ::
  (22, false, .iconst 2, 1, 0, 0, 0, jI 2, 0) ::
  (23, false, .istore 4, 2, 0, 0, 0, 0, 0) ::
  (25, true, .iload 4, 2, 0, 0, 0, 0, 0) ::
  (27, false, .i2l, 1, 0, 0, 0, 0, 0) ::
  (28, false, .iload_n 1, 1, 0, 0, 0, 0, 0) ::
  (29, false, .invokestatic 77, 3, 127, 2, 0, 0, 0) ::
  (32, false, .iconst (-1), 1, 0, 0, 0, jI (-1), 0) ::
  (33, false, .if_icmp .eq 9, 3, 26, 0, 0, 0, 0) ::
  cl_150_1
def cd_150 : List mj_E := cl_150_0
def cx_150 : mj_X := (2, [], [])
theorem tb_150 : mj_tab (mj_mt 150) cx_150 cd_150 mj_mh [(0, 0, 0), (0, 0, 0), (0, 0, 0), (0, 0, 0), (0, 0, 0), (0, 0, 0), (0, 0, 0), (0, 0, 0), (0, 0, 0), (0, 0, 0), (0, 0, 0), (0, 0, 0), (0, 0, 0), (0, 0, 0), (0, 0, 0), (0, 0, 0), (0, 0, 0), (0, 0, 0), (0, 0, 0), (0, 0, 0), (0, 0, 0), (6033, 0, 0), (0, 0, 0), (0, 0, 0), (0, 0, 0), (0, 0, 0), (0, 0, 0), (0, 0, 0), (0, 0, 0), (0, 0, 0), (0, 0, 0), (0, 0, 0), (6037, 0, 0), (0, 0, 0), (0, 0, 0), (0, 0, 0), (0, 0, 0), (0, 0, 0), (0, 0, 0), (0, 0, 0), (0, 0, 0), (0, 0, 0), (0, 0, 0), (0, 0, 0), (6037, 0, 0), (0, 0, 0), (0, 0, 0), (0, 0, 0), (0, 0, 0), (0, 0, 0), (0, 0, 0), (0, 0, 0), (6037, 0, 0), (0, 0, 0), (0, 0, 0), (0, 0, 0), (0, 0, 0), (0, 0, 0), (0, 0, 0), (0, 0, 0), (0, 0, 0), (0, 0, 0), (0, 0, 0), (0, 0, 0), (0, 0, 0), (0, 0, 0), (0, 0, 0), (0, 0, 0), (0, 0, 0), (0, 0, 0), (0, 0, 0), (6043, 0, 0), (0, 0, 0), (0, 0, 0), (0, 0, 0), (0, 0, 0), (0, 0, 0), (0, 0, 0), (0, 0, 0), (0, 0, 0), (0, 0, 0), (0, 0, 0), (0, 0, 0), (0, 0, 0), (0, 0, 0), (0, 0, 0), (0, 0, 0), (0, 0, 0), (0, 0, 0), (6043, 0, 0), (0, 0, 0), (0, 0, 0), (0, 0, 0), (0, 0, 0), (0, 0, 0), (0, 0, 0), (0, 0, 0), (6043, 0, 0), (0, 0, 0), (0, 0, 0), (0, 0, 0), (0, 0, 0), (0, 0, 0), (6043, 0, 0), (0, 0, 0), (0, 0, 0), (0, 0, 0), (0, 0, 0), (0, 0, 0), (6043, 0, 0), (0, 0, 0), (0, 0, 0), (0, 0, 0), (0, 0, 0), (0, 0, 0), (0, 0, 0)] = true := mj_tab_f (by decide +kernel)
theorem ct_150 (G : mj_G) {u p : Nat} (hp : Pr p) (h2 : p % 2 = 1) (hpb : p ≤ 4000000) (hu : u < p) (hpu : ¬ p ∣ u) (hl : legN u p = 1) (h : mj_H) : mj_Ct G (mj_mt 150) 0 0 [.int (jI u), .int (jI p)] h (fun o h' => h' = h ∧ ∃ y : Nat, o = .returned (some (.long (jL y))) ∧ y < p ∧ (p : Int) ∣ (y : Int) * y - u) := by
  have hp2 := hp.1
  have hp0 : 0 < p := by omega
  have iP : (jI (p : Int)).toInt64 = jL (p : Int) := jI_L (by omega) (by omega)
  have iU : (jI (u : Int)).toInt64 = jL (u : Int) := jI_L (by omega) (by omega)
  have mulp : ∀ {x y : Nat}, x < p → y < p → mj_Ct G (mj_mt 152) 0 0 [.long (jL x), .long (jL y), .long (jI (p : Int)).toInt64] h (jR (.long (jL (x * y % p : Nat))) h) := by
    intro x y hx hy
    have h1 : x * y ≤ 4000000 * 4000000 := Nat.mul_le_mul (by omega) (by omega)
    have h3 : ((x * y : Nat) : Int) = (x : Int) * y := Int.natCast_mul ..
    have := ct_152 G (a := x) (b := y) (n := p) (by omega) (by omega) (by omega) (by omega) h
    rw [← h3, ← iP] at this
    exact this
  have one : ∀ {x : Nat}, x < p → (p : Int) ∣ (x : Int) - 1 → x = 1 := by
    intro x hx hd
    rcases Nat.lt_or_ge 1 x with z | z
    · have := Int.le_of_dvd (by omega) hd
      omega
    · rcases Nat.lt_or_ge 0 x with y | y
      · omega
      · have h5 := Int.le_of_dvd (by omega) (Int.dvd_neg.2 hd)
        omega
  refine mj_Ct_of mj_ok tb_150 rfl rfl (Nat.le_of_ble_eq_true rfl) (fun Run hR => ?_)
  have r80 : ∀ (s c r t : Nat) (vI qI sI : Int32) (cL rL tL : Int64) (x11 x12 x13 x14 : Option Value), 1 ≤ s → s ≤ 4000000 → c < p → r < p → t < p → (p : Int) ∣ (c : Int) ^ 2 ^ (s - 1) + 1 → (p : Int) ∣ (t : Int) ^ 2 ^ (s - 1) - 1 → (p : Int) ∣ (r : Int) * r - u * t → sI = jI s → cL = jL c → rL = jL r → tL = jL t → Run 80 (l150 (jI u) (jI p) qI sI vI cL rL tL x11 x12 x13 x14) [] h (0, 0) := by
    intro s
    induction s using Nat.strongRecOn with
    | _ s ih =>
      rintro c r t vI qI sI cL rL tL x11 x12 x13 x14 hs hsb hc hr ht h1 h3 h4 rfl rfl rfl rfl
      have r175 : ∀ (i b c' r' : Nat) (c'L r'L : Int64) (x12 x13 x14 : Option Value), 1 ≤ i → i < s → c' < p → r' < p → (p : Int) ∣ (t : Int) ^ 2 ^ i - 1 → ¬ (p : Int) ∣ (t : Int) ^ 2 ^ (i - 1) - 1 → (p : Int) ∣ (b : Int) - (c : Int) ^ 2 ^ (s - i - 1) → (p : Int) ∣ (c' : Int) - (b : Int) * b → (p : Int) ∣ (r' : Int) - (r : Int) * b → c'L = jL c' → r'L = jL r' → Run 175 (l150 (jI u) (jI p) qI (jI s) vI c'L r'L (jL t) (some (.int (jI i))) x12 x13 x14) [] h (0, 0) := by
        rintro i b c' r' c'L r'L x12 x13 x14 hi his hc' hr' g1 g2 g3 g4 g5 rfl rfl
        refine hR 60 105 _ _ _ _ _ _ rfl ?_
        refine jcall (mulp ht hc') ?_
        obtain ⟨k1, k2, k3⟩ := ts_step hp hi his h1 g1 g2 h4 g3 g4 g5 (mul_md (p := p) (x := t) (y := c'))
        exact ih i his c' r' (t * c' % p) vI qI _ _ _ _ _ _ _ _ hi (by omega) hc' hr' (Nat.mod_lt _ hp0) k1 k2 k3 rfl rfl rfl rfl
      have r125 : ∀ (i : Nat), 1 ≤ i → i < s → (p : Int) ∣ (t : Int) ^ 2 ^ i - 1 → ¬ (p : Int) ∣ (t : Int) ^ 2 ^ (i - 1) - 1 → ∀ (m j x : Nat) (xL : Int64) (jJ : Int32), j + m = s - i - 1 → x < p → (p : Int) ∣ (x : Int) - (c : Int) ^ 2 ^ j → xL = jL x → jJ = jI j → Run 125 (l150 (jI u) (jI p) qI (jI s) vI (jL c) (jL r) (jL t) (some (.int (jI i))) (some (.long xL)) none (some (.int jJ))) [] h (0, 0) := by
        intro i hi his g1 g2 m
        induction m with
        | zero =>
          rintro j x xL jJ hm hx hd rfl rfl
          refine hR 60 78 _ _ _ _ _ _ rfl ?_
          refine ⟨fun cc => ?_, fun cc => ?_⟩
          · have e : j = s - i - 1 := by omega
            subst e
            refine jcall (mulp hx hx) ?_
            refine jcall (mulp hr hx) ?_
            exact r175 i x (x * x % p) (r * x % p) _ _ _ _ _ hi his (Nat.mod_lt _ hp0) (Nat.mod_lt _ hp0) g1 g2 hd mul_md mul_md rfl rfl
          · simp (disch := omega) only [mj_lcm, jI_lt, jI_le, jI_eq, jL_lt, jL_le, jL_eq, jI_lt0, jI_0le, jI_0lt, jI_le0, jI_eq0, jL_eq0, jI_L, jI_add, jI_sub, jI_mul, jI_neg, jL_add, jL_sub, jL_mul, jL_neg, jL_I, jI_div, jI_mod, jL_div, jL_mod] at cc
            omega
        | succ m ihm =>
          rintro j x xL jJ hm hx hd rfl rfl
          refine hR 60 78 _ _ _ _ _ _ rfl ?_
          refine ⟨fun cc => ?_, fun cc => ?_⟩
          · simp (disch := omega) only [mj_lcm, jI_lt, jI_le, jI_eq, jL_lt, jL_le, jL_eq, jI_lt0, jI_0le, jI_0lt, jI_le0, jI_eq0, jL_eq0, jI_L, jI_add, jI_sub, jI_mul, jI_neg, jL_add, jL_sub, jL_mul, jL_neg, jL_I, jI_div, jI_mod, jL_div, jL_mod] at cc
            omega
          · refine jcall (mulp hx hx) ?_
            refine ihm (j + 1) (x * x % p) _ _ (by omega) (Nat.mod_lt _ hp0) ?_ rfl (jI_add _ _)
            rw [← sq_pow]
            have m1 := mul_md (p := p) (x := x) (y := x)
            generalize (c : Int) ^ 2 ^ j = d at hd
            have e2 : ((x * x % p : Nat) : Int) - d * d = (((x * x % p : Nat) : Int) - (x : Int) * x) + ((x : Int) - d) * (x + d) := by grind
            rw [e2]
            exact Int.dvd_add m1 (Int.dvd_mul_of_dvd_left hd)
      have r94 : ¬ (p : Int) ∣ (t : Int) - 1 → ∀ (m i x : Nat) (iI : Int32) (xL : Int64) (x14 : Option Value), i + m = s - 1 → x < p → (i = 0 ∨ ¬ (p : Int) ∣ (t : Int) ^ 2 ^ (i - 1) - 1) → (p : Int) ∣ (x : Int) - (t : Int) ^ 2 ^ i → iI = jI i → xL = jL x → Run 94 (l150 (jI u) (jI p) qI (jI s) vI (jL c) (jL r) (jL t) (some (.int iI)) (some (.long xL)) none x14) [] h (0, 0) := by
        intro ht1 m
        have stop : ∀ (i x : Nat) (x14 : Option Value), i ≤ s - 1 → x = 1 → (i = 0 ∨ ¬ (p : Int) ∣ (t : Int) ^ 2 ^ (i - 1) - 1) → (p : Int) ∣ (x : Int) - (t : Int) ^ 2 ^ i → Run 94 (l150 (jI u) (jI p) qI (jI s) vI (jL c) (jL r) (jL t) (some (.int (jI i))) (some (.long (jL x))) none x14) [] h (0, 0) := by
          rintro i x x14 hm rfl hz hd
          refine hR 60 62 _ _ _ _ _ _ rfl ?_
          refine ⟨fun cc => ?_, fun cc => absurd rfl cc⟩
          have hd' : (p : Int) ∣ (t : Int) ^ 2 ^ i - 1 := by
            have := Int.dvd_neg.2 hd
            rwa [Int.neg_sub] at this
          have hi : 1 ≤ i := by
            rcases Nat.lt_or_ge 0 i with z | z
            · exact z
            · exfalso
              have : i = 0 := by omega
              subst this
              rw [Nat.pow_zero, Int.pow_one] at hd'
              exact ht1 hd'
          have hz' : ¬ (p : Int) ∣ (t : Int) ^ 2 ^ (i - 1) - 1 := by
            rcases hz with z | z
            · omega
            · exact z
          refine r125 i hi (by omega) hd' hz' (s - i - 1) 0 c _ _ (by omega) hc ?_ rfl rfl
          rw [Nat.pow_zero, Int.pow_one, Int.sub_self]
          exact Int.dvd_zero _
        induction m with
        | zero =>
          rintro i x iI xL x14 hm hx hz hd rfl rfl
          have e : i = s - 1 := by omega
          refine stop i x x14 (by omega) (one hx ?_) hz hd
          rw [e] at hd
          have := Int.dvd_add hd h3
          have e2 : (x : Int) - (t : Int) ^ 2 ^ (s - 1) + ((t : Int) ^ 2 ^ (s - 1) - 1) = (x : Int) - 1 := by omega
          rwa [e2] at this
        | succ m ihm =>
          rintro i x iI xL x14 hm hx hz hd rfl rfl
          by_cases x1 : x = 1
          · exact stop i x x14 (by omega) x1 hz hd
          · refine hR 60 62 _ _ _ _ _ _ rfl ?_
            refine ⟨fun cc => ?_, fun cc => ?_⟩
            · simp (disch := omega) only [mj_lcm, jI_lt, jI_le, jI_eq, jL_lt, jL_le, jL_eq, jI_lt0, jI_0le, jI_0lt, jI_le0, jI_eq0, jL_eq0, jI_L, jI_add, jI_sub, jI_mul, jI_neg, jL_add, jL_sub, jL_mul, jL_neg, jL_I, jI_div, jI_mod, jL_div, jL_mod] at cc
              omega
            · refine jcall (mulp hx hx) ?_
              refine ihm (i + 1) (x * x % p) _ _ _ (by omega) (Nat.mod_lt _ hp0) (Or.inr ?_) ?_ (jI_add _ _) rfl
              · rw [Nat.add_sub_cancel]
                intro z
                apply x1
                refine one hx ?_
                have := Int.dvd_add hd z
                have e2 : (x : Int) - (t : Int) ^ 2 ^ i + ((t : Int) ^ 2 ^ i - 1) = (x : Int) - 1 := by omega
                rwa [e2] at this
              · rw [← sq_pow]
                have m1 := mul_md (p := p) (x := x) (y := x)
                generalize (t : Int) ^ 2 ^ i = d at hd
                have e2 : ((x * x % p : Nat) : Int) - d * d = (((x * x % p : Nat) : Int) - (x : Int) * x) + ((x : Int) - d) * (x + d) := by grind
                rw [e2]
                exact Int.dvd_add m1 (Int.dvd_mul_of_dvd_left hd)
      refine hR 60 54 _ _ _ _ _ _ rfl ?_
      refine ⟨fun cc => ?_, fun cc => ?_⟩
      · simp (disch := omega) only [mj_lcm, jI_lt, jI_le, jI_eq, jL_lt, jL_le, jL_eq, jI_lt0, jI_0le, jI_0lt, jI_le0, jI_eq0, jL_eq0, jI_L, jI_add, jI_sub, jI_mul, jI_neg, jL_add, jL_sub, jL_mul, jL_neg, jL_I, jI_div, jI_mod, jL_div, jL_mod] at cc
        have : t = 1 := by omega
        subst this
        refine ⟨rfl, r, rfl, hr, ?_⟩
        have e : (u : Int) * ((1 : Nat) : Int) = u := Int.mul_one _
        rwa [e] at h4
      · simp (disch := omega) only [mj_lcm, jI_lt, jI_le, jI_eq, jL_lt, jL_le, jL_eq, jI_lt0, jI_0le, jI_0lt, jI_le0, jI_eq0, jL_eq0, jI_L, jI_add, jI_sub, jI_mul, jI_neg, jL_add, jL_sub, jL_mul, jL_neg, jL_I, jI_div, jI_mod, jL_div, jL_mod] at cc
        refine r94 (fun z => ?_) (s - 1) 0 t _ _ _ (by omega) ht (Or.inl rfl) ?_ rfl rfl
        · have := one ht z
          omega
        · rw [Nat.pow_zero, Int.pow_one, Int.sub_self]
          exact Int.dvd_zero _
  obtain ⟨w, w1, w2, w3⟩ := non_ex hp h2
  have hgu : (p : Int) ∣ (u : Int) ^ (p / 2) - 1 := by
    have := gauss_pow hp h2 hpu
    unfold legN at hl
    rw [if_neg (fun z => hpu (Nat.dvd_of_mod_eq_zero z))] at hl
    rwa [hl] at this
  have r25 : ∀ (q s : Nat), q % 2 = 1 → 1 ≤ s → q * 2 ^ s = p - 1 → ∀ (m v : Nat) (vI : Int32) (x5 x6 x7 x8 x9 x10 x11 x12 x13 x14 : Option Value), v + m = w → vI = jI v → Run 25 [some (.int (jI u)), some (.int (jI p)), some (.int (jI q)), some (.int (jI s)), some (.int vI), x5, x6, x7, x8, x9, x10, x11, x12, x13, x14] [] h (0, 0) := by
    intro q s hq hs hqs m
    have hsp : s ≤ p - 1 := by
      have h5 : s < 2 ^ s := Nat.lt_two_pow_self
      have h6 : 1 * 2 ^ s ≤ q * 2 ^ s := Nat.mul_le_mul_right _ (by omega)
      omega
    have hqp : q ≤ p - 1 := by
      have h5 : 1 ≤ 2 ^ s := Nat.pow_pos (by decide)
      have h6 : q * 1 ≤ q * 2 ^ s := Nat.mul_le_mul_left _ h5
      omega
    have hhalf : q * 2 ^ (s - 1) = p / 2 := by
      have e : 2 ^ s = 2 ^ (s - 1) * 2 := by
        rw [← Nat.pow_succ]
        congr 1
        omega
      rw [e, ← Nat.mul_assoc] at hqs
      omega
    have fin : ∀ (v : Nat) (x5 x6 x7 x8 x9 x10 x11 x12 x13 x14 : Option Value), v < p → legN v p = -1 → Run 25 [some (.int (jI u)), some (.int (jI p)), some (.int (jI q)), some (.int (jI s)), some (.int (jI v)), x5, x6, x7, x8, x9, x10, x11, x12, x13, x14] [] h (0, 0) := by
      intro v x5 x6 x7 x8 x9 x10 x11 x12 x13 x14 hv hvl
      have c127 := ct_127 G (d := (v : Int)) (n := (p : Int)) (e := 0) (ps := [p]) (allP_one hp h2) (by show p = 2 ^ 0 * (p * 1); omega) (by omega) (by omega) (by omega) h
      rw [kro_pr hp0, hvl, ← jI_L (a := (v : Int)) (by omega) (by omega)] at c127
      have c1 := ct_151 G (b := v) (e := q) (n := p) hv (by omega) (by omega) h
      rw [← jI_L (a := (v : Int)) (by omega) (by omega), ← jI_L (a := (q : Int)) (by omega) (by omega), ← iP] at c1
      have c2 := ct_151 G (b := u) (e := (q + 1) / 2) (n := p) hu (by omega) (by omega) h
      have e2 : ((jI (q : Int) + jI 1) / jI 2).toInt64 = jL (((q + 1) / 2 : Nat) : Int) := by
        rw [jI_add, jI_div (by omega) (by omega) (by decide) (by decide), Int.tdiv_eq_ediv_of_nonneg (by omega), jI_L (by omega) (by omega)]
        congr 1
      rw [← iU, ← e2, ← iP] at c2
      have c3 := ct_151 G (b := u) (e := q) (n := p) hu (by omega) (by omega) h
      rw [← iU, ← jI_L (a := (q : Int)) (by omega) (by omega), ← iP] at c3
      have hgv : (p : Int) ∣ (v : Int) ^ (p / 2) + 1 := by
        have hnd : ¬ p ∣ v := fun z => by
          unfold legN at hvl
          rw [if_pos (Nat.mod_eq_zero_of_dvd z)] at hvl
          exact absurd hvl (by decide)
        have := gauss_pow hp h2 hnd
        unfold legN at hvl
        rw [if_neg (fun z => hnd (Nat.dvd_of_mod_eq_zero z))] at hvl
        rw [hvl] at this
        have e : (v : Int) ^ (p / 2) - -1 = (v : Int) ^ (p / 2) + 1 := by omega
        rwa [e] at this
      have r69 : ∀ (x9 x10 x11 x12 x13 x14 : Option Value), Run 69 [some (.int (jI u)), some (.int (jI p)), some (.int (jI q)), some (.int (jI s)), some (.int (jI v)), some (.long (jL (v ^ q % p : Nat))), none, some (.long (jL (u ^ ((q + 1) / 2) % p : Nat))), none, x9, x10, x11, x12, x13, x14] [] h (0, 0) := by
        intro x9 x10 x11 x12 x13 x14
        refine hR 60 46 _ _ _ _ _ _ rfl ?_
        refine jcall c3 ?_
        refine r80 s (v ^ q % p) (u ^ ((q + 1) / 2) % p) (u ^ q % p) _ _ _ _ _ _ _ _ _ _ hs (by omega) (Nat.mod_lt _ hp0) (Nat.mod_lt _ hp0) (Nat.mod_lt _ hp0) ?_ ?_ ?_ rfl rfl rfl rfl
        · have k1 := pow_dvd (pow_md (p := p) (x := v) (k := q)) (2 ^ (s - 1))
          rw [← Int.pow_mul, hhalf] at k1
          have := Int.dvd_add k1 hgv
          generalize ((v ^ q % p : Nat) : Int) ^ 2 ^ (s - 1) = X at this ⊢
          have e : X - (v : Int) ^ (p / 2) + ((v : Int) ^ (p / 2) + 1) = X + 1 := by omega
          rwa [e] at this
        · have k1 := pow_dvd (pow_md (p := p) (x := u) (k := q)) (2 ^ (s - 1))
          rw [← Int.pow_mul, hhalf] at k1
          have := Int.dvd_add k1 hgu
          generalize ((u ^ q % p : Nat) : Int) ^ 2 ^ (s - 1) = X at this ⊢
          have e : X - (u : Int) ^ (p / 2) + ((u : Int) ^ (p / 2) - 1) = X - 1 := by omega
          rwa [e] at this
        · have k1 := pow_md (p := p) (x := u) (k := (q + 1) / 2)
          have k2 := pow_md (p := p) (x := u) (k := q)
          have e : (u : Int) ^ ((q + 1) / 2) * (u : Int) ^ ((q + 1) / 2) = u * (u : Int) ^ q := by
            rw [← Int.pow_add, show (q + 1) / 2 + (q + 1) / 2 = q + 1 by omega, Int.pow_succ, Int.mul_comm]
          generalize ((u ^ ((q + 1) / 2) % p : Nat) : Int) = R at k1 ⊢
          generalize ((u ^ q % p : Nat) : Int) = T at k2 ⊢
          generalize (u : Int) ^ ((q + 1) / 2) = A at k1 e
          generalize (u : Int) ^ q = B at k2 e
          obtain ⟨a1, b1⟩ := k1
          obtain ⟨a2, b2⟩ := k2
          refine ⟨a1 * (R + A) - u * a2, ?_⟩
          grind
      refine hR 60 18 _ _ _ _ _ _ rfl ?_
      refine jcall c127 ?_
      refine ⟨fun cc => ?_, fun cc => absurd rfl cc⟩
      refine jcall c1 ?_
      refine ⟨by decide, jcall c2 ?_⟩
      exact r69 _ _ _ _ _ _
    induction m with
    | zero =>
      rintro v vI x5 x6 x7 x8 x9 x10 x11 x12 x13 x14 hm rfl
      have e : v = w := by omega
      subst e
      exact fin v x5 x6 x7 x8 x9 x10 x11 x12 x13 x14 w2 w3
    | succ m ihm =>
      rintro v vI x5 x6 x7 x8 x9 x10 x11 x12 x13 x14 hm rfl
      by_cases hvl : legN v p = -1
      · exact fin v x5 x6 x7 x8 x9 x10 x11 x12 x13 x14 (by omega) hvl
      · have c127 := ct_127 G (d := (v : Int)) (n := (p : Int)) (e := 0) (ps := [p]) (allP_one hp h2) (by show p = 2 ^ 0 * (p * 1); omega) (by omega) (by omega) (by omega) h
        rw [kro_pr hp0, ← jI_L (a := (v : Int)) (by omega) (by omega)] at c127
        have hlb : legN v p = 0 ∨ legN v p = 1 := by
          unfold legN at hvl ⊢
          by_cases z : v % p = 0
          · rw [if_pos z]
            exact Or.inl rfl
          · rw [if_neg z] at hvl ⊢
            rcases sgN_pm (muN v p) with g | g
            · exact Or.inr g
            · exact absurd g hvl
        refine hR 60 18 _ _ _ _ _ _ rfl ?_
        refine jcall c127 ?_
        refine ⟨fun cc => ?_, fun cc => ?_⟩
        · exfalso
          rcases hlb with z | z
          · rw [z] at cc
            exact absurd cc (by decide)
          · rw [z] at cc
            exact absurd cc (by decide)
        · exact ihm (v + 1) _ _ _ _ _ _ _ _ _ _ _ (by omega) (jI_add _ _)
  have r6 : ∀ (m q s : Nat) (qI sI : Int32) (x4 x5 x6 x7 x8 x9 x10 x11 x12 x13 x14 : Option Value), q ≤ m → 0 < q → q * 2 ^ s = p - 1 → s + q ≤ p → qI = jI q → sI = jI s → Run 6 [some (.int (jI u)), some (.int (jI p)), some (.int qI), some (.int sI), x4, x5, x6, x7, x8, x9, x10, x11, x12, x13, x14] [] h (0, 0) := by
    intro m
    induction m with
    | zero => intro q s qI sI x4 x5 x6 x7 x8 x9 x10 x11 x12 x13 x14 hm h0; omega
    | succ m ihm =>
      rintro q s qI sI x4 x5 x6 x7 x8 x9 x10 x11 x12 x13 x14 hm h0 hqs hsq rfl rfl
      have em : jI (q : Int) % jI 2 = jI ((q % 2 : Nat) : Int) := by
        rw [jI_mod (by omega) (by omega) (by decide) (by decide)]
        rfl
      refine hR 60 6 _ _ _ _ _ _ rfl ?_
      refine ⟨by decide, fun cc => ⟨by decide, ?_⟩, fun cc => ?_⟩
      · rw [em] at cc
        simp (disch := omega) only [mj_lcm, jI_lt, jI_le, jI_eq, jL_lt, jL_le, jL_eq, jI_lt0, jI_0le, jI_0lt, jI_le0, jI_eq0, jL_eq0, jI_L, jI_add, jI_sub, jI_mul, jI_neg, jL_add, jL_sub, jL_mul, jL_neg, jL_I, jI_div, jI_mod, jL_div, jL_mod] at cc
        have ed : jI (q : Int) / jI 2 = jI ((q / 2 : Nat) : Int) := by
          rw [jI_div (by omega) (by omega) (by decide) (by decide), Int.tdiv_eq_ediv_of_nonneg (by omega)]
          congr 1
        refine ihm (q / 2) (s + 1) _ _ _ _ _ _ _ _ _ _ _ _ _ (by omega) (by omega) ?_ (by omega) ed (jI_add _ _)
        rw [Nat.pow_succ, ← hqs]
        have e : q = q / 2 * 2 := by omega
        have e2 : q * 2 ^ s = q / 2 * 2 * 2 ^ s := by rw [← e]
        rw [e2]
        generalize q / 2 = a
        generalize 2 ^ s = b
        rw [Nat.mul_comm b 2, Nat.mul_assoc]
      · rw [em] at cc
        simp (disch := omega) only [mj_lcm, jI_lt, jI_le, jI_eq, jL_lt, jL_le, jL_eq, jI_lt0, jI_0le, jI_0lt, jI_le0, jI_eq0, jL_eq0, jI_L, jI_add, jI_sub, jI_mul, jI_neg, jL_add, jL_sub, jL_mul, jL_neg, jL_I, jI_div, jI_mod, jL_div, jL_mod] at cc
        have hs : 1 ≤ s := by
          rcases Nat.lt_or_ge 0 s with z | z
          · exact z
          · exfalso
            have : s = 0 := by omega
            subst this
            rw [Nat.pow_zero, Nat.mul_one] at hqs
            omega
        have hw2 : 2 ≤ w := by
          rcases Nat.lt_or_ge 1 w with z | z
          · exact z
          · exfalso
            have : w = 1 := by omega
            subst this
            rw [leg_one hp h2] at w3
            exact absurd w3 (by decide)
        exact r25 q s (by omega) hs hqs (w - 2) 2 _ _ _ _ _ _ _ _ _ _ _ (by omega) rfl
  refine hR 60 0 _ _ _ _ _ _ rfl ?_
  refine r6 (p - 1) (p - 1) 0 _ _ _ _ _ _ _ _ _ _ _ _ _ (Nat.le_refl _) (by omega) (by rw [Nat.pow_zero, Nat.mul_one]) (by omega) ?_ rfl
  rw [jI_sub]
  congr 1
  omega
