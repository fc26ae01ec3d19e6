/-! contract: roots modulo a prime's power -/
def cbd (p l q : Nat) : Prop := (p = 2 → l * l ≤ 2 * q) ∧ (p = 3 → 3 * (l * l) ≤ 4 * q) ∧ (5 ≤ p → l * l ≤ q)
theorem cbd_le {p l q : Nat} (h : l * l ≤ q) : cbd p l q := ⟨fun _ => by omega, fun _ => by omega, fun _ => h⟩
theorem cbd_len {p l q : Nat} (hp : Pr p) (h : cbd p l q) (hq : q ≤ 4000000) : l ≤ 4000 := by
  have hp2 := hp.1
  have h4 : p ≠ 4 := by
    rintro rfl
    have := hp.2 2 (by decide)
    omega
  have : l * l ≤ 2 * q := by
    obtain ⟨a, b, c⟩ := h
    rcases Nat.lt_or_ge p 3 with z | z
    · exact a (by omega)
    · rcases Nat.lt_or_ge p 4 with y | y
      · have := b (by omega)
        omega
      · have := c (by omega)
        omega
  rcases Nat.lt_or_ge 4000 l with z | z
  · exfalso
    have : 4001 * 4001 ≤ l * l := Nat.mul_le_mul z z
    omega
  · exact z
theorem sq_zero {p : Nat} (hp : Pr p) (e x : Nat) : ((p ^ e : Nat) : Int) ∣ (x : Int) * x - ((0 : Nat) : Int) ↔ ∃ y, x = p ^ ((e + 1) / 2) * y ∧ y % 1 = 0 := by
  have e0 : (x : Int) * x - ((0 : Nat) : Int) = ((x * x : Nat) : Int) := by
    rw [Int.natCast_mul]
    omega
  rw [e0, Int.natCast_dvd_natCast]
  constructor
  · intro h
    have h1 : p ^ (e / 2) ∣ x := sq_pow_dvd hp (e / 2) x (Nat.dvd_trans (Nat.pow_dvd_pow p (by omega)) h)
    rcases Nat.mod_two_eq_zero_or_one e with z | z
    · obtain ⟨y, hy⟩ := h1
      exact ⟨y, by rw [show (e + 1) / 2 = e / 2 by omega]; exact hy, Nat.mod_one y⟩
    · obtain ⟨y, hy⟩ := h1
      have hp2 := hp.1
      have h2 : p ^ (e / 2 + e / 2) * p ∣ p ^ (e / 2 + e / 2) * (y * y) := by
        rw [← Nat.pow_succ, show (e / 2 + e / 2).succ = e by omega]
        have : p ^ (e / 2 + e / 2) * (y * y) = x * x := by
          rw [Nat.pow_add, hy]
          grind
        rw [this]
        exact h
      have h3 := Nat.dvd_of_mul_dvd_mul_left (Nat.pow_pos (by omega)) h2
      have h4 : p ∣ y := by rcases pr_mul hp h3 with k | k <;> exact k
      obtain ⟨v, rfl⟩ := h4
      refine ⟨v, ?_, Nat.mod_one v⟩
      rw [show (e + 1) / 2 = e / 2 + 1 by omega, Nat.pow_succ, hy, Nat.mul_assoc]
  · rintro ⟨y, rfl, _⟩
    refine Nat.dvd_trans (Nat.pow_dvd_pow p (n := (e + 1) / 2 + (e + 1) / 2) (by omega)) ?_
    rw [Nat.pow_add]
    exact ⟨y * y, by grind⟩
theorem md_sub {M : Int} {y u v : Int} (h : M ∣ u - v) : M ∣ y - u ↔ M ∣ y - v := by
  constructor
  · intro k
    have := Int.dvd_add k h
    have e : y - u + (u - v) = y - v := by omega
    rwa [e] at this
  · intro k
    have := Int.dvd_sub k h
    have e : y - v - (u - v) = y - u := by omega
    rwa [e] at this
theorem md_mod (u n : Nat) : (n : Int) ∣ ((u % n : Nat) : Int) - u := mod_same.2 (Nat.mod_mod u n)
theorem pow_cast (p k : Nat) : ((p ^ k : Nat) : Int) = (p : Int) ^ k := Int.natCast_pow ..
abbrev l147 (d p e k u : Int32) (x6 x7 x8 x9 x10 : Option Value) : mj_Ls := [some (.ref 73), some (.int d), some (.int p), some (.int e), some (.int k), some (.int u), x6, x7, x8, x9, x10]
/-- FormHouse$Roots.findLocal(III)V; cuts at [30, 49, 64, 82, 106, 118, 139, 160] -/
def cl_147_4 : List mj_E := (160, true, .aload_n 0, 1, 0, 0, 0, 0, 0) ::
  (161, false, .iload 7, 2, 0, 0, 0, 0, 0) ::
  (163, false, .i2l, 1, 0, 0, 0, 0, 0) ::
  (164, false, .iload 8, 2, 0, 0, 0, 0, 0) ::
  (166, false, .i2l, 1, 0, 0, 0, 0, 0) ::
  (167, false, .lload 9, 2, 0, 0, 0, 0, 0) ::
  (169, false, .lsub, 1, 0, 0, 0, 0, 0) ::
  (170, false, .lmul, 1, 0, 0, 0, 0, 0) ::
  (171, false, .l2i, 1, 0, 0, 0, 0, 0) ::
  (172, false, .iload 7, 2, 0, 0, 0, 0, 0) ::
  (174, false, .iload 8, 2, 0, 0, 0, 0, 0) ::
  (176, false, .imul, 1, 0, 0, 0, 0, 0) ::
  (177, false, .iload_n 2, 1, 0, 0, 0, 0, 0) ::
  (178, false, .iload_n 3, 1, 0, 0, 0, 0, 0) ::
  (179, false, .invokestatic 66, 3, 146, 2, 0, 0, 0) ::
  (182, false, .invokevirtual 70, 3, 148, 3, 14, 0, 0) ::
  (185, false, .return_, 1, 0, 0, 0, 0, 0) ::
  []
def cl_147_3 : List mj_E := (120, false, .iload_n 2, 1, 0, 0, 0, 0, 0) ::
  (121, false, .irem, 1, 0, 0, 0, 0, 0) ::
  (122, false, .iload_n 2, 1, 0, 0, 0, 0, 0) ::
  (123, false, .invokestatic 82, 3, 150, 2, 0, 0, 0) ::
  (126, false, .iload 5, 2, 0, 0, 0, 0, 0) ::
  (128, false, .iload 8, 2, 0, 0, 0, 0, 0) ::
  (130, false, .irem, 1, 0, 0, 0, 0, 0) ::
  (131, false, .iload_n 2, 1, 0, 0, 0, 0, 0) ::
  (132, false, .iload 6, 2, 0, 0, 0, 0, 0) ::
  (134, false, .invokestatic 86, 3, 153, 4, 0, 0, 0) ::
  (137, false, .lstore 9, 2, 0, 0, 0, 0, 0) ::
  (139, true, .aload_n 0, 1, 0, 0, 0, 0, 0) ::
  (140, false, .iload 7, 2, 0, 0, 0, 0, 0) ::
  (142, false, .i2l, 1, 0, 0, 0, 0, 0) ::
  (143, false, .lload 9, 2, 0, 0, 0, 0, 0) ::
  (145, false, .lmul, 1, 0, 0, 0, 0, 0) ::
  (146, false, .l2i, 1, 0, 0, 0, 0, 0) ::
  (147, false, .iload 7, 2, 0, 0, 0, 0, 0) ::
  (149, false, .iload 8, 2, 0, 0, 0, 0, 0) ::
  (151, false, .imul, 1, 0, 0, 0, 0, 0) ::
  (152, false, .iload_n 2, 1, 0, 0, 0, 0, 0) ::
  (153, false, .iload_n 3, 1, 0, 0, 0, 0, 0) ::
  (154, false, .invokestatic 66, 3, 146, 2, 0, 0, 0) ::
  (157, false, .invokevirtual 70, 3, 148, 3, 14, 0, 0) ::
  cl_147_4
def cl_147_2 : List mj_E := (77, false, .invokestatic 66, 3, 146, 2, 0, 0, 0) ::
  (80, false, .istore 8, 2, 0, 0, 0, 0, 0) ::
  (82, true, .iload_n 2, 1, 0, 0, 0, 0, 0) ::
  (83, false, .iconst 2, 1, 0, 0, 0, jI 2, 0) ::
  (84, false, .if_icmp .ne 22, 3, 64, 0, 0, 0, 0) ::
  (87, false, .aload_n 0, 1, 0, 0, 0, 0, 0) ::
  (88, false, .iload 5, 2, 0, 0, 0, 0, 0) ::
  (90, false, .iload 8, 2, 0, 0, 0, 0, 0) ::
  (92, false, .irem, 1, 0, 0, 0, 0, 0) ::
  (93, false, .iload 6, 2, 0, 0, 0, 0, 0) ::
  (95, false, .iload 7, 2, 0, 0, 0, 0, 0) ::
  (97, false, .iload_n 2, 1, 0, 0, 0, 0, 0) ::
  (98, false, .iload_n 3, 1, 0, 0, 0, 0, 0) ::
  (99, false, .invokestatic 66, 3, 146, 2, 0, 0, 0) ::
  (102, false, .invokevirtual 73, 3, 149, 4, 14, 0, 0) ::
  (105, false, .return_, 1, 0, 0, 0, 0, 0) ::
  (106, true, .iload 5, 2, 0, 0, 0, 0, 0) ::
  (108, false, .i2l, 1, 0, 0, 0, 0, 0) ::
  (109, false, .iload_n 2, 1, 0, 0, 0, 0, 0) ::
  (110, false, .invokestatic 77, 3, 127, 2, 0, 0, 0) ::
  (113, false, .iconst 1, 1, 0, 0, 0, jI 1, 0) ::
  (114, false, .if_icmp .eq 4, 3, 71, 0, 0, 0, 0) ::
  (117, false, .return_, 1, 0, 0, 0, 0, 0) ::
  (118, true, .iload 5, 2, 0, 0, 0, 0, 0) ::
  cl_147_3
def cl_147_1 : List mj_E := (37, false, .iload 5, 2, 0, 0, 0, 0, 0) ::
  (39, false, .iload_n 2, 1, 0, 0, 0, 0, 0) ::
  (40, false, .idiv, 1, 0, 0, 0, 0, 0) ::
  (41, false, .istore 5, 2, 0, 0, 0, 0, 0) ::
  (43, false, .iinc 4 1, 3, 0, 0, 0, jI 1, 0) ::
  (46, false, .goto (-16), 3, 20, 0, 0, 0, 0) ::
  (49, true, .iload 4, 2, 0, 0, 0, 0, 0) ::
  (51, false, .iconst 2, 1, 0, 0, 0, jI 2, 0) ::
  (52, false, .irem, 1, 0, 0, 0, 0, 0) ::
  (53, false, .iconst 1, 1, 0, 0, 0, jI 1, 0) ::
  (54, false, .if_icmp .ne 4, 3, 36, 0, 0, 0, 0) ::
  (57, false, .return_, 1, 0, 0, 0, 0, 0) ::
  (58, false, .iload_n 3, 1, 0, 0, 0, 0, 0) ::
  (59, false, .iload 4, 2, 0, 0, 0, 0, 0) ::
  (61, false, .isub, 1, 0, 0, 0, 0, 0) ::
  (62, false, .istore 6, 2, 0, 0, 0, 0, 0) ::
  (64, true, .iload_n 2, 1, 0, 0, 0, 0, 0) ::
  (65, false, .iload 4, 2, 0, 0, 0, 0, 0) ::
  (67, false, .iconst 2, 1, 0, 0, 0, jI 2, 0) ::
  (68, false, .idiv, 1, 0, 0, 0, 0, 0) ::
  (69, false, .invokestatic 66, 3, 146, 2, 0, 0, 0) ::
  (72, false, .istore 7, 2, 0, 0, 0, 0, 0) ::
  (74, false, .iload_n 2, 1, 0, 0, 0, 0, 0) ::
  (75, false, .iload 6, 2, 0, 0, 0, 0, 0) ::
  cl_147_2
def cl_147_0 : List mj_E := (0, false, .iload_n 1, 1, 0, 0, 0, 0, 0) ::
  (1, false, .ifCond .ne 23, 3, 16, 0, 0, 0, 0) ::
  (4, false, .aload_n 0, 1, 0, 0, 0, 0, 0) ::
  (5, false, .iconst 0, 1, 0, 0, 0, jI 0, 0) ::
  (6, false, .iload_n 2, 1, 0, 0, 0, 0, 0) ::
  (7, false, .iload_n 3, 1, 0, 0, 0, 0, 0) ::
  (8, false, .iconst 1, 1, 0, 0, 0, jI 1, 0) ::
  (9, false, .iadd, 1, 0, 0, 0, 0, 0) ::
  (10, false, .iconst 2, 1, 0, 0, 0, jI 2, 0) ::
  (11, false, .idiv, 1, 0, 0, 0, 0, 0) ::
  (12, false, .invokestatic 66, 3, 146, 2, 0, 0, 0) ::
  (15, false, .iload_n 2, 1, 0, 0, 0, 0, 0) ::
  (16, false, .iload_n 3, 1, 0, 0, 0, 0, 0) ::
  (17, false, .invokestatic 66, 3, 146, 2, 0, 0, 0) ::
  (20, false, .invokevirtual 70, 3, 148, 3, 14, 0, 0) ::
  (23, false, .return_, 1, 0, 0, 0, 0, 0) ::
  (24, false, .iconst 0, 1, 0, 0, 0, jI 0, 0) ::
  (25, false, .istore 4, 2, 0, 0, 0, 0, 0) ::
  (27, false, .iload_n 1, 1, 0, 0, 0, 0, 0) ::
  (28, false, .istore 5, 2, 0, 0, 0, 0, 0) ::
  (30, true, .iload 5, 2, 0, 0, 0, 0, 0) ::
  (32, false, .iload_n 2, 1, 0, 0, 0, 0, 0) ::
  (33, false, .irem, 1, 0, 0, 0, 0, 0) ::
  (34, false, .ifCond .ne 15, 3, 30, 0, 0, 0, 0) ::
  cl_147_1
def cd_147 : List mj_E := cl_147_0
def cx_147 : mj_X := (0, [], [])
theorem tb_147 : mj_tab (mj_mt 147) cx_147 cd_147 mj_mh [(0, 0, 0), (0, 0, 0), (0, 0, 0), (0, 0, 0), (0, 0, 0), (0, 0, 0), (0, 0, 0), (0, 0, 0), (0, 0, 0), (0, 0, 0), (6024, 0, 0), (0, 0, 0), (0, 0, 0), (6024, 0, 0), (6025, 0, 0), (0, 0, 0), (0, 0, 0), (0, 0, 0), (0, 0, 0), (0, 0, 0), (0, 0, 0), (0, 0, 0), (0, 0, 0), (0, 0, 0), (0, 0, 0), (0, 0, 0), (0, 0, 0), (0, 0, 0), (0, 0, 0), (0, 0, 0), (0, 0, 0), (0, 0, 0), (0, 0, 0), (0, 0, 0), (0, 0, 0), (0, 0, 0), (0, 0, 0), (0, 0, 0), (0, 0, 0), (0, 0, 0), (0, 0, 0), (0, 0, 0), (0, 0, 0), (0, 0, 0), (6024, 0, 0), (0, 0, 0), (0, 0, 0), (0, 0, 0), (6024, 0, 0), (0, 0, 0), (0, 0, 0), (0, 0, 0), (0, 0, 0), (0, 0, 0), (0, 0, 0), (0, 0, 0), (0, 0, 0), (0, 0, 0), (0, 0, 0), (0, 0, 0), (0, 0, 0), (6024, 0, 0), (6029, 0, 0), (0, 0, 0), (0, 0, 0), (0, 0, 0), (0, 0, 0), (6033, 0, 0), (0, 0, 0), (0, 0, 0), (0, 0, 0), (0, 0, 0), (0, 0, 0), (0, 0, 0), (0, 0, 0), (6034, 0, 0), (0, 0, 0), (0, 0, 0), (0, 0, 0), (0, 0, 0), (0, 0, 0), (6044, 0, 0), (0, 0, 0), (0, 0, 0), (0, 0, 0), (0, 0, 0), (0, 0, 0), (0, 0, 0), (0, 0, 0), (0, 0, 0), (0, 0, 0), (0, 0, 0), (0, 0, 0), (0, 0, 0), (6024, 0, 0), (6025, 0, 0), (0, 0, 0), (0, 0, 0), (0, 0, 0), (0, 0, 0), (0, 0, 0), (0, 0, 0), (0, 0, 0), (0, 0, 0), (0, 0, 0), (0, 0, 0), (0, 0, 0), (0, 0, 0), (0, 0, 0), (0, 0, 0), (6024, 0, 0), (6025, 0, 0), (0, 0, 0)] = true := mj_tab_f (by decide +kernel)
theorem ct_147 (G : mj_G) {h : mj_H} (L : isLay h) {a b : Nat} (hr : isRt h a b) {mv : Int32} (hl : isLc mv h []) {d p e : Nat} (hp : Pr p) (he : 1 ≤ e) (hqb : p ^ e ≤ 4000000) (hd : d < p ^ e) : mj_Ct G (mj_mt 147) 0 0 [.ref 73, .int (jI d), .int (jI p), .int (jI e)] h (fun o h' => o = .returned none ∧ FrI [73, 76] h h' ∧ ∃ ls, isLc mv h' ls ∧ cbd p ls.length (p ^ e) ∧ RtQ (p ^ e) (fun x => ((p ^ e : Nat) : Int) ∣ (x : Int) * x - d) ls) := by
  have hp2 := hp.1
  have hp4 : p ≠ 4 := by
    rintro rfl
    have := hp.2 2 (by decide)
    omega
  have heb : e ≤ 21 := by
    rcases Nat.lt_or_ge 21 e with z | z
    · exfalso
      have h3 : 2 ^ 22 ≤ p ^ e := Nat.le_trans (Nat.pow_le_pow_right (by decide) z) (Nat.pow_le_pow_left hp2 _)
      have h5 : (2 : Nat) ^ 22 = 4194304 := by decide
      omega
    · exact z
  have hpe : p ≤ p ^ e := by
    have := Nat.pow_le_pow_right (n := p) (by omega) he
    rwa [Nat.pow_one] at this
  have pb : ∀ {k : Nat}, k ≤ e → p ^ k ≤ p ^ e ∧ 0 < p ^ k := fun hk => ⟨Nat.pow_le_pow_right (by omega) hk, Nat.pow_pos (by omega)⟩
  have cr : ∀ {k : Nat} (h' : mj_H), k ≤ e → mj_Ct G (mj_mt 146) 0 0 [.int (jI p), .int (jI k)] h' (jR (.int (jI (p ^ k : Nat))) h') := by
    intro k h' hk
    have := pb hk
    exact ct_146 G (p := p) (e := k) (by omega) (by omega) (by omega) h'
  refine mj_Ct_of mj_ok tb_147 rfl rfl (Nat.le_of_ble_eq_true rfl) (fun Run hR => ?_)
  have r49 : ∀ (k u : Nat) (x6 x7 x8 x9 x10 : Option Value), p ^ k * u = d → ¬ p ∣ u → 0 < u → k < e → Run 49 (l147 (jI d) (jI p) (jI e) (jI k) (jI u) x6 x7 x8 x9 x10) [] h (0, 0) := by
    intro k u x6 x7 x8 x9 x10 hku hpu hu0 hke
    have hud : u ≤ d := by
      rw [← hku]
      exact Nat.le_mul_of_pos_left _ (pb (by omega)).2
    have ek : jI (k : Int) % jI 2 = jI ((k % 2 : Nat) : Int) := by
      rw [jI_mod (by omega) (by omega) (by decide) (by decide)]
      rfl
    refine hR 60 30 _ _ _ _ _ _ rfl ?_
    refine ⟨by decide, fun c => ?_, fun c => ?_⟩
    · rw [ek] at c
      simp (disch := omega) only [mj_lcm, jI_lt, jI_le, jI_eq, jL_lt, jL_le, jL_eq, jI_lt0, jI_0le, jI_0lt, jI_le0, jI_eq0, jL_eq0, jI_L, jI_add, jI_sub, jI_mul, jI_neg, jL_add, jL_sub, jL_mul, jL_neg, jL_I, jI_div, jI_mod, jL_div, jL_mod] at c
      refine ⟨rfl, FrI.refl _ _, [], hl, cbd_le (Nat.zero_le _), RtQ.nil ?_⟩
      intro x _ hx
      have hj : k = 2 * (k / 2) + 1 := by omega
      have hm : e = 2 * (k / 2) + (e - 2 * (k / 2)) := by omega
      generalize e - 2 * (k / 2) = m at hm
      generalize k / 2 = j at hj hm
      rw [hm] at hx
      have := (rts_scale hp (j := j) (m := m) (d := (d : Int)) (u := ((p * u : Nat) : Int)) (by
        rw [← Int.natCast_mul, ← hku, hj, Nat.pow_succ, Nat.mul_assoc, Int.sub_self]
        exact Int.dvd_zero _) x).1 hx
      obtain ⟨y, _, hy⟩ := this
      have hp2m : p * p ∣ p ^ m := by
        have := Nat.pow_dvd_pow p (show 2 ≤ m by omega)
        rwa [Nat.pow_two] at this
      have hy2 : ((p * p : Nat) : Int) ∣ (y : Int) * y - ((p * u : Nat) : Int) := Int.dvd_trans (Int.natCast_dvd_natCast.2 hp2m) hy
      have hy1 : (p : Int) ∣ (y : Int) * y := by
        have h1 : (p : Int) ∣ (y : Int) * y - ((p * u : Nat) : Int) := Int.dvd_trans ⟨p, Int.natCast_mul ..⟩ hy2
        have h2 : (p : Int) ∣ ((p * u : Nat) : Int) := ⟨u, Int.natCast_mul ..⟩
        have := Int.dvd_add h1 h2
        rwa [Int.sub_add_cancel] at this
      have hy0 : (p : Int) ∣ (y : Int) := by rcases pr_mulI hp hy1 with z | z <;> exact z
      obtain ⟨v, hv⟩ := hy0
      obtain ⟨w, hw⟩ := hy2
      apply hpu
      refine Int.natCast_dvd_natCast.1 ⟨v * v - w, ?_⟩
      rw [hv, Int.natCast_mul, Int.natCast_mul] at hw
      have hpn : (p : Int) ≠ 0 := by omega
      refine Int.eq_of_mul_eq_mul_left hpn ?_
      grind
    · rw [ek] at c
      simp (disch := omega) only [mj_lcm, jI_lt, jI_le, jI_eq, jL_lt, jL_le, jL_eq, jI_lt0, jI_0le, jI_0lt, jI_le0, jI_eq0, jL_eq0, jI_L, jI_add, jI_sub, jI_mul, jI_neg, jL_add, jL_sub, jL_mul, jL_neg, jL_I, jI_div, jI_mod, jL_div, jL_mod] at c
      have hk2 : k % 2 = 0 := by omega
      have hj : k = 2 * (k / 2) := by omega
      have hm : e = 2 * (k / 2) + (e - k) := by omega
      have hm1 : 1 ≤ e - k := by omega
      have ed : jI (k : Int) / jI 2 = jI ((k / 2 : Nat) : Int) := by
        rw [jI_div (by omega) (by omega) (by decide) (by decide), Int.tdiv_eq_ediv_of_nonneg (by omega)]
        congr 1
      have hje : k / 2 ≤ e := by omega
      have hmme : e - k ≤ e := by omega
      generalize hmm : e - k = m at hm hm1 hmme
      generalize hjj : k / 2 = j at hj hm ed hje
      have hsc : ∀ x : Nat, ((p ^ e : Nat) : Int) ∣ (x : Int) * x - d ↔ ∃ y : Nat, x = p ^ j * y ∧ ((p ^ m : Nat) : Int) ∣ (y : Int) * y - u := by
        intro x
        rw [hm]
        refine rts_scale hp ?_ x
        rw [← hku, hj, Int.natCast_mul, Int.sub_self]
        exact Int.dvd_zero _
      have hq2 : p ^ e = p ^ j * p ^ m * p ^ j := by
        rw [hm, Nat.pow_add, show 2 * j = j + j by omega, Nat.pow_add]
        grind
      obtain ⟨bj, bj0⟩ := pb hje
      obtain ⟨bm, bm0⟩ := pb hmme
      have hum := Nat.mod_lt u bm0
      have eum : jI (u : Int) % jI ((p ^ m : Nat) : Int) = jI ((u % p ^ m : Nat) : Int) := by
        rw [jI_mod (by omega) (by omega) (by omega) (by omega)]
        rfl
      have hmdv : p ∣ p ^ m := by
        have := Nat.pow_dvd_pow p hm1
        rwa [Nat.pow_one] at this
      have hpum : ¬ p ∣ u % p ^ m := fun z => hpu ((Nat.dvd_mod_iff hmdv).1 z)
      have hz : ∀ y : Nat, ((p ^ m : Nat) : Int) ∣ (y : Int) * y - u ↔ ((p ^ m : Nat) : Int) ∣ (y : Int) * y - ((u % p ^ m : Nat) : Int) := fun y => (md_sub (md_mod u (p ^ m))).symm
      have r82 : ∀ (x9 x10 : Option Value), Run 82 (l147 (jI d) (jI p) (jI e) (jI k) (jI u) (some (.int (jI m))) (some (.int (jI (p ^ j : Nat)))) (some (.int (jI (p ^ m : Nat)))) x9 x10) [] h (0, 0) := by
        intro x9 x10
        have r106 : p ≠ 2 → ∀ (x9 x10 : Option Value), Run 106 (l147 (jI d) (jI p) (jI e) (jI k) (jI u) (some (.int (jI m))) (some (.int (jI (p ^ j : Nat)))) (some (.int (jI (p ^ m : Nat)))) x9 x10) [] h (0, 0) := by
          intro hne x9 x10
          have hodd : p % 2 = 1 := by
            rcases Nat.mod_two_eq_zero_or_one p with z | z
            · have := hp.2 2 (by omega)
              omega
            · exact z
          have c127 := ct_127 G (d := (u : Int)) (n := (p : Int)) (e := 0) (ps := [p]) (allP_one hp hodd) (by show p = 2 ^ 0 * (p * 1); omega) (by omega) (by omega) (by omega) h
          rw [kro_pr (by omega), ← jI_L (a := (u : Int)) (by omega) (by omega)] at c127
          have hleg : legN u p = sgN (muN u p) := by
            unfold legN
            rw [if_neg (fun z => hpu (Nat.dvd_of_mod_eq_zero z))]
          have r118 : legN u p = 1 → ∀ (x9 x10 : Option Value), Run 118 (l147 (jI d) (jI p) (jI e) (jI k) (jI u) (some (.int (jI m))) (some (.int (jI (p ^ j : Nat)))) (some (.int (jI (p ^ m : Nat)))) x9 x10) [] h (0, 0) := by
            intro hl1 x9 x10
            have hup := Nat.mod_lt u (show 0 < p by omega)
            have eup : jI (u : Int) % jI (p : Int) = jI ((u % p : Nat) : Int) := by
              rw [jI_mod (by omega) (by omega) (by omega) (by omega)]
              rfl
            have c150 := ct_150 G (u := u % p) (p := p) hp hodd (by omega) hup (fun z => hpu ((Nat.dvd_mod_iff (Nat.dvd_refl p)).1 z)) (by rw [leg_mod]; exact hl1) h
            rw [← eup] at c150
            refine hR 60 71 _ _ _ _ _ _ rfl ?_
            refine ⟨?_, ?_⟩
            · simp (disch := omega) only [mj_lcm, jI_lt, jI_le, jI_eq, jL_lt, jL_le, jL_eq, jI_lt0, jI_0le, jI_0lt, jI_le0, jI_eq0, jL_eq0, jI_L, jI_add, jI_sub, jI_mul, jI_neg, jL_add, jL_sub, jL_mul, jL_neg, jL_I, jI_div, jI_mod, jL_div, jL_mod]
              omega
            · refine jcallP c150 ?_
              rintro o h3 ⟨e3, r, rfl, r1, r2⟩
              have e3' := e3.symm
              subst e3'
              have hru : (p : Int) ∣ (r : Int) * r - ((u % p ^ m : Nat) : Int) := by
                have e1 : (p : Int) ∣ ((u % p : Nat) : Int) - ((u % p ^ m : Nat) : Int) := by
                  refine mod_same.2 ?_
                  rw [Nat.mod_mod, Nat.mod_mod_of_dvd u hmdv]
                exact (md_sub e1).1 r2
              have c153 := ct_153 G (r := r) (u := u % p ^ m) (p := p) (m := m) hp hodd (by omega) (by omega) r1 (by omega) hpum hru h
              rw [← eum] at c153
              refine ⟨?_, ?_⟩
              · simp (disch := omega) only [mj_lcm, jI_lt, jI_le, jI_eq, jL_lt, jL_le, jL_eq, jI_lt0, jI_0le, jI_0lt, jI_le0, jI_eq0, jL_eq0, jI_L, jI_add, jI_sub, jI_mul, jI_neg, jL_add, jL_sub, jL_mul, jL_neg, jL_I, jI_div, jI_mod, jL_div, jL_mod]
                omega
              · refine jcallP c153 ?_
                rintro o h4 ⟨e4, y, rfl, y1, y2⟩
                have e4' := e4.symm
                subst e4'
                have hch := rts_odd hp hodd hm1 hpum y2
                have hy0 : y % p ^ m = y := Nat.mod_eq_of_lt y1
                rw [hy0] at hch
                have hy00 : 0 < y := by
                  rcases Nat.lt_or_ge 0 y with z | z
                  · exact z
                  · exfalso
                    have : y = 0 := by omega
                    subst this
                    apply hpum
                    have h5 := Int.dvd_trans (Int.natCast_dvd_natCast.2 hmdv) y2
                    have e5 : ((0 : Nat) : Int) * ((0 : Nat) : Int) - ((u % p ^ m : Nat) : Int) = -((u % p ^ m : Nat) : Int) := by omega
                    rw [e5, Int.dvd_neg] at h5
                    exact Int.natCast_dvd_natCast.1 h5
                have hyne : y ≠ p ^ m - y := by
                  intro z
                  have h6 : p ^ m % 2 = 1 := by
                    rw [Nat.pow_mod, hodd, Nat.one_pow]
                  omega
                obtain ⟨f1, f2⟩ := fo_scale (s := p ^ j) (w := p ^ m) (r := y) (q := p ^ e) (t := p ^ j) (f := p ^ j) bj0 bm0 y1 hq2 (by rw [hq2, Nat.mul_comm]; exact Nat.le_refl _)
                obtain ⟨g1, g2⟩ := fo_scale (s := p ^ j) (w := p ^ m) (r := p ^ m - y) (q := p ^ e) (t := p ^ j) (f := p ^ j) bj0 bm0 (by omega) hq2 (by rw [hq2, Nat.mul_comm]; exact Nat.le_refl _)
                have bjm : p ^ j * p ^ m ≤ p ^ e := by
                  rw [hq2]
                  exact Nat.le_mul_of_pos_right _ bj0
                have bsw0 : 0 < p ^ j * p ^ m := Nat.mul_pos bj0 bm0
                have bjy : p ^ j * y ≤ p ^ j * p ^ m := Nat.mul_le_mul_left _ (by omega)
                have bjy2 : p ^ j * (p ^ m - y) ≤ p ^ j * p ^ m := Nat.mul_le_mul_left _ (by omega)
                have hm5 : p = 3 ∨ 5 ≤ p := by omega
                have hcb : cbd p (2 * p ^ j) (p ^ e) := by
                  have k1 : 2 * p ^ j * (2 * p ^ j) = 4 * (p ^ j * p ^ j) := by grind
                  have k2 : p ^ e = p ^ m * (p ^ j * p ^ j) := by rw [hq2]; grind
                  have k3 : p ≤ p ^ m := Nat.le_of_dvd bm0 hmdv
                  have k4 : p * (p ^ j * p ^ j) ≤ p ^ m * (p ^ j * p ^ j) := Nat.mul_le_mul_right _ k3
                  unfold cbd
                  rw [k1, k2]
                  refine ⟨fun z => by omega, fun z => ?_, fun z => ?_⟩
                  · have k5 : 3 * (p ^ j * p ^ j) ≤ p * (p ^ j * p ^ j) := Nat.mul_le_mul_right _ (by omega)
                    omega
                  · have k5 : 5 * (p ^ j * p ^ j) ≤ p * (p ^ j * p ^ j) := Nat.mul_le_mul_right _ z
                    omega
                have hle := cbd_len hp hcb hqb
                have c1 := ct_148 G L hr hl (x0 := p ^ j * y) (step := p ^ j * p ^ m) (q := p ^ e) (f := p ^ j) ⟨bsw0, by omega⟩ (by omega) (by omega) (by rw [hq2, Nat.mul_comm]; exact Nat.le_refl _) (by rw [List.nil_append]; omega)
                have ej1 : ((jI ((p ^ j : Nat) : Int)).toInt64 * jL (y : Int)).toInt32 = jI ((p ^ j * y : Nat) : Int) := by
                  rw [jI_L (by omega) (by omega), jL_mul, jL_I, Int.natCast_mul]
                have ej2 : ((jI ((p ^ j : Nat) : Int)).toInt64 * ((jI ((p ^ m : Nat) : Int)).toInt64 - jL (y : Int))).toInt32 = jI ((p ^ j * (p ^ m - y) : Nat) : Int) := by
                  rw [jI_L (by omega) (by omega), jI_L (by omega) (by omega), jL_sub, jL_mul, jL_I, Int.natCast_mul]
                  congr 2
                  omega
                rw [List.nil_append, ← ej1, Int.natCast_mul (p ^ j) (p ^ m), ← jI_mul] at c1
                have r160 : ∀ (h' : mj_H), isLc mv h' (foL (p ^ j * p ^ m) (p ^ e) (p ^ j) (p ^ j * y % (p ^ j * p ^ m))) → FrI [73, 76] h h' → Run 160 (l147 (jI d) (jI p) (jI e) (jI k) (jI u) (some (.int (jI m))) (some (.int (jI (p ^ j : Nat)))) (some (.int (jI (p ^ m : Nat)))) (some (.long (jL y))) none) [] h' (0, 0) := by
                  intro h' hl' F
                  have c2 := ct_148 G (L.fr F.1) (hr.fr F) hl' (x0 := p ^ j * (p ^ m - y)) (step := p ^ j * p ^ m) (q := p ^ e) (f := p ^ j) ⟨bsw0, by omega⟩ (by omega) (by omega) (by rw [hq2, Nat.mul_comm]; exact Nat.le_refl _) (by rw [List.length_append]; omega)
                  rw [← ej2, Int.natCast_mul (p ^ j) (p ^ m), ← jI_mul] at c2
                  refine hR 60 96 _ _ _ _ _ _ rfl ?_
                  refine jcall (cr h' (Nat.le_refl e)) ?_
                  refine ⟨(L.fr F.1).K 73 rfl, jcallP c2 ?_⟩
                  rintro o h5 ⟨rfl, hl5, F5⟩
                  refine ⟨rfl, (F.trans F5).mono (by simp), _, hl5, ?_, ?_⟩
                  · rw [List.length_append]
                    obtain ⟨q1, q2, q3⟩ := hcb
                    have k9 : ((foL (p ^ j * p ^ m) (p ^ e) (p ^ j) (p ^ j * y % (p ^ j * p ^ m))).length + (foL (p ^ j * p ^ m) (p ^ e) (p ^ j) (p ^ j * (p ^ m - y) % (p ^ j * p ^ m))).length) * ((foL (p ^ j * p ^ m) (p ^ e) (p ^ j) (p ^ j * y % (p ^ j * p ^ m))).length + (foL (p ^ j * p ^ m) (p ^ e) (p ^ j) (p ^ j * (p ^ m - y) % (p ^ j * p ^ m))).length) ≤ 2 * p ^ j * (2 * p ^ j) := Nat.mul_le_mul (by omega) (by omega)
                    exact ⟨fun z => absurd z hne, fun z => by have := q2 z; omega, fun z => by have := q3 z; omega⟩
                  · refine (f1.app g1 ?_).congr ?_
                    · rintro x ⟨y1, e1, k1⟩ ⟨y2, e2, k2⟩
                      rw [e1] at e2
                      have := Nat.eq_of_mul_eq_mul_left bj0 e2
                      subst this
                      omega
                    · intro x _
                      rw [hsc x]
                      constructor
                      · rintro (⟨y1, e1, k1⟩ | ⟨y1, e1, k1⟩)
                        · exact ⟨y1, e1, (hz y1).2 ((hch y1).2 (Or.inl k1))⟩
                        · exact ⟨y1, e1, (hz y1).2 ((hch y1).2 (Or.inr k1))⟩
                      · rintro ⟨y1, e1, k1⟩
                        rcases (hch y1).1 ((hz y1).1 k1) with z | z
                        · exact Or.inl ⟨y1, e1, z⟩
                        · exact Or.inr ⟨y1, e1, z⟩
                have r139 : Run 139 (l147 (jI d) (jI p) (jI e) (jI k) (jI u) (some (.int (jI m))) (some (.int (jI (p ^ j : Nat)))) (some (.int (jI (p ^ m : Nat)))) (some (.long (jL y))) none) [] h (0, 0) := by
                  refine hR 60 83 _ _ _ _ _ _ rfl ?_
                  refine jcall (cr h (Nat.le_refl e)) ?_
                  refine ⟨L.K 73 rfl, jcallP c1 ?_⟩
                  rintro o h5 ⟨rfl, hl5, F5⟩
                  exact r160 h5 hl5 F5
                exact r139
          refine hR 60 64 _ _ _ _ _ _ rfl ?_
          refine jcall c127 ?_
          rcases sgN_pm (muN u p) with g | g
          · rw [hleg, g]
            refine ⟨fun c => ?_, fun c => absurd rfl c⟩
            exact r118 (by rw [hleg, g]) _ _
          · rw [hleg, g]
            refine ⟨fun c => absurd c (by decide), fun c => ?_⟩
            refine ⟨rfl, FrI.refl _ _, [], hl, cbd_le (Nat.zero_le _), RtQ.nil ?_⟩
            intro x _ hx
            obtain ⟨y, _, hy⟩ := (hsc x).1 hx
            have h5 := Int.dvd_trans (Int.natCast_dvd_natCast.2 hmdv) hy
            have h6 := euler_sq hp hodd hpu ⟨y, by
              rw [← Int.natCast_mul] at h5
              exact mod_same.1 h5⟩
            rw [g] at h6
            exact absurd h6 (by decide)
        refine hR 60 50 _ _ _ _ _ _ rfl ?_
        refine ⟨fun c => ?_, fun c => ?_⟩
        · simp (disch := omega) only [mj_lcm, jI_lt, jI_le, jI_eq, jL_lt, jL_le, jL_eq, jI_lt0, jI_0le, jI_0lt, jI_le0, jI_eq0, jL_eq0, jI_L, jI_add, jI_sub, jI_mul, jI_neg, jL_add, jL_sub, jL_mul, jL_neg, jL_I, jI_div, jI_mod, jL_div, jL_mod] at c
          have : p = 2 := by omega
          subst this
          have hu2 : u % 2 = 1 := by omega
          have c149 := ct_149 G L hr hl (u := u % 2 ^ m) (m := m) (j := j) hm1 hum (by
            rw [Nat.mod_mod_of_dvd u hmdv]
            exact hu2) (by rw [← hm]; exact hqb)
          rw [← hm, ← eum] at c149
          refine ⟨?_, ?_⟩
          · simp (disch := omega) only [mj_lcm, jI_lt, jI_le, jI_eq, jL_lt, jL_le, jL_eq, jI_lt0, jI_0le, jI_0lt, jI_le0, jI_eq0, jL_eq0, jI_L, jI_add, jI_sub, jI_mul, jI_neg, jL_add, jL_sub, jL_mul, jL_neg, jL_I, jI_div, jI_mod, jL_div, jL_mod]
            omega
          · refine jcall (cr h (Nat.le_refl e)) ?_
            refine ⟨L.K 73 rfl, jcallP c149 ?_⟩
            rintro o h5 ⟨rfl, F5, ls, hl5, hn5, hr5⟩
            refine ⟨rfl, F5, ls, hl5, ⟨fun _ => hn5, fun z => by omega, fun z => by omega⟩, hr5.congr (fun x _ => ?_)⟩
            rw [hsc x]
            constructor
            · rintro ⟨y, e1, k1⟩
              exact ⟨y, e1, (hz y).2 k1⟩
            · rintro ⟨y, e1, k1⟩
              exact ⟨y, e1, (hz y).1 k1⟩
        · simp (disch := omega) only [mj_lcm, jI_lt, jI_le, jI_eq, jL_lt, jL_le, jL_eq, jI_lt0, jI_0le, jI_0lt, jI_le0, jI_eq0, jL_eq0, jI_L, jI_add, jI_sub, jI_mul, jI_neg, jL_add, jL_sub, jL_mul, jL_neg, jL_I, jI_div, jI_mod, jL_div, jL_mod] at c
          exact r106 (by omega) _ _
      have r64 : ∀ (mI : Int32) (x7 x8 x9 x10 : Option Value), mI = jI m → Run 64 (l147 (jI d) (jI p) (jI e) (jI k) (jI u) (some (.int mI)) x7 x8 x9 x10) [] h (0, 0) := by
        rintro mI x7 x8 x9 x10 rfl
        have cj := cr h hje
        rw [← ed] at cj
        refine hR 60 40 _ _ _ _ _ _ rfl ?_
        refine ⟨by decide, jcall cj ?_⟩
        refine jcall (cr h hmme) ?_
        exact r82 _ _
      refine r64 _ _ _ _ _ ?_
      rw [jI_sub]
      congr 1
      omega
  have r30 : ∀ (n k u : Nat) (kI uI : Int32) (x6 x7 x8 x9 x10 : Option Value), u ≤ n → 0 < u → p ^ k * u = d → kI = jI k → uI = jI u → Run 30 (l147 (jI d) (jI p) (jI e) kI uI x6 x7 x8 x9 x10) [] h (0, 0) := by
    intro n
    induction n with
    | zero => intro k u kI uI x6 x7 x8 x9 x10 hn h0; omega
    | succ n ih =>
      rintro k u kI uI x6 x7 x8 x9 x10 hn hu0 hku rfl rfl
      have hke : k < e := by
        rcases Nat.lt_or_ge k e with z | z
        · exact z
        · exfalso
          have h3 : p ^ e ≤ p ^ k := Nat.pow_le_pow_right (by omega) z
          have h4 : p ^ k * 1 ≤ p ^ k * u := Nat.mul_le_mul_left _ hu0
          omega
      have hud : u ≤ d := by
        rw [← hku]
        exact Nat.le_mul_of_pos_left _ (pb (by omega)).2
      have em : jI (u : Int) % jI (p : Int) = jI ((u % p : Nat) : Int) := by
        rw [jI_mod (by omega) (by omega) (by omega) (by omega)]
        rfl
      have edv : jI (u : Int) / jI (p : Int) = jI ((u / p : Nat) : Int) := by
        rw [jI_div (by omega) (by omega) (by omega) (by omega), Int.tdiv_eq_ediv_of_nonneg (by omega)]
        rfl
      have hml := Nat.mod_lt u (show 0 < p by omega)
      refine hR 60 20 _ _ _ _ _ _ rfl ?_
      refine ⟨?_, fun c => ⟨?_, ?_⟩, fun c => ?_⟩
      · simp (disch := omega) only [mj_lcm, jI_lt, jI_le, jI_eq, jL_lt, jL_le, jL_eq, jI_lt0, jI_0le, jI_0lt, jI_le0, jI_eq0, jL_eq0, jI_L, jI_add, jI_sub, jI_mul, jI_neg, jL_add, jL_sub, jL_mul, jL_neg, jL_I, jI_div, jI_mod, jL_div, jL_mod]
        omega
      · simp (disch := omega) only [mj_lcm, jI_lt, jI_le, jI_eq, jL_lt, jL_le, jL_eq, jI_lt0, jI_0le, jI_0lt, jI_le0, jI_eq0, jL_eq0, jI_L, jI_add, jI_sub, jI_mul, jI_neg, jL_add, jL_sub, jL_mul, jL_neg, jL_I, jI_div, jI_mod, jL_div, jL_mod]
        omega
      · rw [em] at c
        generalize hup : u % p = um at c hml
        simp (disch := omega) only [mj_lcm, jI_lt, jI_le, jI_eq, jL_lt, jL_le, jL_eq, jI_lt0, jI_0le, jI_0lt, jI_le0, jI_eq0, jL_eq0, jI_L, jI_add, jI_sub, jI_mul, jI_neg, jL_add, jL_sub, jL_mul, jL_neg, jL_I, jI_div, jI_mod, jL_div, jL_mod] at c
        have hdv : p ∣ u := Nat.dvd_of_mod_eq_zero (by omega)
        obtain ⟨v, hv⟩ := hdv
        have huv : u / p = v := by rw [hv, Nat.mul_div_cancel_left _ (by omega)]
        have hv0 : 0 < v := by
          rcases Nat.lt_or_ge 0 v with z | z
          · exact z
          · have : v = 0 := by omega
            rw [this, Nat.mul_zero] at hv
            omega
        have hvu : v < u := by
          have : 2 * v ≤ p * v := Nat.mul_le_mul_right _ hp2
          omega
        refine ih (k + 1) v _ _ _ _ _ _ _ (by omega) hv0 ?_ (jI_add _ _) (by rw [edv, huv])
        rw [Nat.pow_succ, Nat.mul_assoc, ← hv]
        exact hku
      · rw [em] at c
        generalize hup : u % p = um at c hml
        simp (disch := omega) only [mj_lcm, jI_lt, jI_le, jI_eq, jL_lt, jL_le, jL_eq, jI_lt0, jI_0le, jI_0lt, jI_le0, jI_eq0, jL_eq0, jI_L, jI_add, jI_sub, jI_mul, jI_neg, jL_add, jL_sub, jL_mul, jL_neg, jL_I, jI_div, jI_mod, jL_div, jL_mod] at c
        exact r49 k u _ _ _ _ _ hku (fun z => by have := Nat.mod_eq_zero_of_dvd z; omega) hu0 hke
  refine hR 60 0 _ _ _ _ _ _ rfl ?_
  refine ⟨fun c => ?_, fun c => ?_⟩
  · simp (disch := omega) only [mj_lcm, jI_lt, jI_le, jI_eq, jL_lt, jL_le, jL_eq, jI_lt0, jI_0le, jI_0lt, jI_le0, jI_eq0, jL_eq0, jI_L, jI_add, jI_sub, jI_mul, jI_neg, jL_add, jL_sub, jL_mul, jL_neg, jL_I, jI_div, jI_mod, jL_div, jL_mod] at c
    have : d = 0 := by omega
    subst this
    have hh : (e + 1) / 2 ≤ e := by omega
    have he2 : e / 2 ≤ e := by omega
    obtain ⟨bs, bs0⟩ := pb hh
    obtain ⟨bt, bt0⟩ := pb he2
    have hq2 : p ^ e = p ^ ((e + 1) / 2) * 1 * p ^ (e / 2) := by
      rw [Nat.mul_one, ← Nat.pow_add]
      congr 1
      omega
    have hll : p ^ (e / 2) * p ^ (e / 2) ≤ p ^ e := by
      rw [← Nat.pow_add]
      exact Nat.pow_le_pow_right (by omega) (by omega)
    obtain ⟨f1, f2⟩ := fo_scale (s := p ^ ((e + 1) / 2)) (w := 1) (r := 0) (q := p ^ e) (t := p ^ (e / 2)) (f := p ^ (e / 2)) bs0 (by decide) (by decide) hq2 (by rw [hq2, Nat.mul_comm _ (p ^ (e / 2))]; exact Nat.le_refl _)
    rw [Nat.mul_one, Nat.mul_zero] at f1 f2
    have hlen := cbd_len hp (cbd_le hll) hqb
    have c1 := ct_148 G L hr hl (x0 := 0) (step := p ^ ((e + 1) / 2)) (q := p ^ e) (f := p ^ (e / 2)) ⟨bs0, by omega⟩ (by omega) (by omega) (by rw [hq2, Nat.mul_comm, Nat.mul_one]; exact Nat.le_refl _) (by rw [List.nil_append]; omega)
    rw [List.nil_append] at c1
    have eh : (jI (e : Int) + jI 1) / jI 2 = jI (((e + 1) / 2 : Nat) : Int) := by
      rw [jI_add, jI_div (by omega) (by omega) (by decide) (by decide), Int.tdiv_eq_ediv_of_nonneg (by omega)]
      congr 1
    have ch := cr h hh
    rw [← eh] at ch
    refine ⟨by decide, jcall ch ?_⟩
    refine jcall (cr h (Nat.le_refl e)) ?_
    refine ⟨L.K 73 rfl, jcallP c1 ?_⟩
    rintro o h5 ⟨rfl, hl5, F5⟩
    refine ⟨rfl, F5, _, hl5, cbd_le (Nat.le_trans (Nat.mul_le_mul f2 f2) hll), f1.congr (fun x _ => ?_)⟩
    exact (sq_zero hp e x).symm
  · simp (disch := omega) only [mj_lcm, jI_lt, jI_le, jI_eq, jL_lt, jL_le, jL_eq, jI_lt0, jI_0le, jI_0lt, jI_le0, jI_eq0, jL_eq0, jI_L, jI_add, jI_sub, jI_mul, jI_neg, jL_add, jL_sub, jL_mul, jL_neg, jL_I, jI_div, jI_mod, jL_div, jL_mod] at c
    exact r30 d 0 d _ _ _ _ _ _ _ (Nat.le_refl _) (by omega) (by rw [Nat.pow_zero, Nat.one_mul]) rfl rfl
