/-! contract: roots of a unit modulo a power of two -/
theorem isRt.fr {h h' : mj_H} {a b : Nat} (hr : isRt h a b) {S : List Nat} (F : FrI S h h') : isRt h' a b := ⟨(fR F.1 _ _).trans hr.1, (fR F.1 _ _).trans hr.2.1, (fR F.1 _ _).trans hr.2.2.1, hr.2.2.2⟩
theorem sq_mod8 {y : Nat} (h : y % 2 = 1) : ∃ k : Int, (y : Int) * y = 8 * k + 1 := by
  obtain ⟨a, ha⟩ : ∃ a, y = 4 * a + 1 ∨ y = 4 * a + 3 := ⟨y / 4, by omega⟩
  rcases ha with ha | ha
  · refine ⟨2 * ((a : Int) * a) + a, ?_⟩
    rw [ha, Int.natCast_add, Int.natCast_mul]
    grind
  · refine ⟨2 * ((a : Int) * a) + 3 * a + 1, ?_⟩
    rw [ha, Int.natCast_add, Int.natCast_mul]
    grind
theorem sq_par (y : Nat) : ∃ k : Int, (y : Int) * y = 2 * k + (y % 2 : Nat) := by
  rcases Nat.mod_two_eq_zero_or_one y with z | z
  · obtain ⟨a, ha⟩ : ∃ a, y = 2 * a := ⟨y / 2, by omega⟩
    refine ⟨2 * ((a : Int) * a), ?_⟩
    rw [z, ha, Int.natCast_mul]
    grind
  · obtain ⟨k, hk⟩ := sq_mod8 z
    exact ⟨4 * k, by rw [hk, z]; omega⟩
theorem sq_odd {y u : Nat} (hu : u % 2 = 1) {M : Int} (h2 : 2 ∣ M) (h : M ∣ (y : Int) * y - u) : y % 2 = 1 := by
  have h1 := Int.dvd_trans h2 h
  obtain ⟨k, hk⟩ := sq_par y
  rw [hk] at h1
  have h3 : ((u : Nat) : Int) % 2 = 1 := by omega
  omega
abbrev l149 (u m s q P : Int32) (x6 x7 x8 x9 x10 : Option Value) : mj_Ls := [some (.ref 73), some (.int u), some (.int m), some (.int s), some (.int q), some (.int P), x6, x7, x8, x9, x10]
/-- FormHouse$Roots.units(IIII)V; cuts at [5, 31, 47, 53, 98, 114, 123, 137] -/
def cl_149_4 : List mj_E := (151, false, .iload 10, 2, 0, 0, 0, 0, 0) ::
  (153, false, .isub, 1, 0, 0, 0, 0, 0) ::
  (154, false, .imul, 1, 0, 0, 0, 0, 0) ::
  (155, false, .iload_n 3, 1, 0, 0, 0, 0, 0) ::
  (156, false, .iload 9, 2, 0, 0, 0, 0, 0) ::
  (158, false, .imul, 1, 0, 0, 0, 0, 0) ::
  (159, false, .iload 4, 2, 0, 0, 0, 0, 0) ::
  (161, false, .invokevirtual 70, 3, 148, 3, 14, 0, 0) ::
  (164, false, .return_, 1, 0, 0, 0, 0, 0) ::
  []
def cl_149_3 : List mj_E := (112, false, .istore 9, 2, 0, 0, 0, 0, 0) ::
  (114, true, .lload 7, 2, 0, 0, 0, 0, 0) ::
  (116, false, .iload 9, 2, 0, 0, 0, 0, 0) ::
  (118, false, .i2l, 1, 0, 0, 0, 0, 0) ::
  (119, false, .lrem, 1, 0, 0, 0, 0, 0) ::
  (120, false, .l2i, 1, 0, 0, 0, 0, 0) ::
  (121, false, .istore 10, 2, 0, 0, 0, 0, 0) ::
  (123, true, .aload_n 0, 1, 0, 0, 0, 0, 0) ::
  (124, false, .iload_n 3, 1, 0, 0, 0, 0, 0) ::
  (125, false, .iload 10, 2, 0, 0, 0, 0, 0) ::
  (127, false, .imul, 1, 0, 0, 0, 0, 0) ::
  (128, false, .iload_n 3, 1, 0, 0, 0, 0, 0) ::
  (129, false, .iload 9, 2, 0, 0, 0, 0, 0) ::
  (131, false, .imul, 1, 0, 0, 0, 0, 0) ::
  (132, false, .iload 4, 2, 0, 0, 0, 0, 0) ::
  (134, false, .invokevirtual 70, 3, 148, 3, 14, 0, 0) ::
  (137, true, .iload 10, 2, 0, 0, 0, 0, 0) ::
  (139, false, .iload 9, 2, 0, 0, 0, 0, 0) ::
  (141, false, .iload 10, 2, 0, 0, 0, 0, 0) ::
  (143, false, .isub, 1, 0, 0, 0, 0, 0) ::
  (144, false, .if_icmp .eq 20, 3, 104, 0, 0, 0, 0) ::
  (147, false, .aload_n 0, 1, 0, 0, 0, 0, 0) ::
  (148, false, .iload_n 3, 1, 0, 0, 0, 0, 0) ::
  (149, false, .iload 9, 2, 0, 0, 0, 0, 0) ::
  cl_149_4
def cl_149_2 : List mj_E := (73, false, .lconst 1, 1, 0, 0, 0, 0, jL 1) ::
  (74, false, .lsub, 1, 0, 0, 0, 0, 0) ::
  (75, false, .land, 1, 0, 0, 0, 0, 0) ::
  (76, false, .lconst 0, 1, 0, 0, 0, 0, jL 0) ::
  (77, false, .lcmp, 1, 0, 0, 0, 0, 0) ::
  (78, false, .ifCond .eq 14, 3, 62, 0, 0, 0, 0) ::
  (81, false, .lload 7, 2, 0, 0, 0, 0, 0) ::
  (83, false, .lconst 1, 1, 0, 0, 0, 0, jL 1) ::
  (84, false, .iload 9, 2, 0, 0, 0, 0, 0) ::
  (86, false, .iconst 1, 1, 0, 0, 0, jI 1, 0) ::
  (87, false, .isub, 1, 0, 0, 0, 0, 0) ::
  (88, false, .lshl, 1, 0, 0, 0, 0, 0) ::
  (89, false, .ladd, 1, 0, 0, 0, 0, 0) ::
  (90, false, .lstore 7, 2, 0, 0, 0, 0, 0) ::
  (92, false, .iinc 9 1, 3, 0, 0, 0, jI 1, 0) ::
  (95, false, .goto (-42), 3, 34, 0, 0, 0, 0) ::
  (98, true, .iload_n 2, 1, 0, 0, 0, 0, 0) ::
  (99, false, .iconst 2, 1, 0, 0, 0, jI 2, 0) ::
  (100, false, .if_icmp .ne 8, 3, 69, 0, 0, 0, 0) ::
  (103, false, .iload 5, 2, 0, 0, 0, 0, 0) ::
  (105, false, .goto 7, 3, 72, 0, 0, 0, 0) ::
  (108, false, .iload 5, 2, 0, 0, 0, 0, 0) ::
  (110, false, .iconst 2, 1, 0, 0, 0, jI 2, 0) ::
  (111, false, .idiv, 1, 0, 0, 0, 0, 0) ::
  cl_149_3
def cl_149_1 : List mj_E := (38, false, .iload_n 3, 1, 0, 0, 0, 0, 0) ::
  (39, false, .iconst 2, 1, 0, 0, 0, jI 2, 0) ::
  (40, false, .imul, 1, 0, 0, 0, 0, 0) ::
  (41, false, .iload 4, 2, 0, 0, 0, 0, 0) ::
  (43, false, .invokevirtual 70, 3, 148, 3, 14, 0, 0) ::
  (46, false, .return_, 1, 0, 0, 0, 0, 0) ::
  (47, true, .lconst 1, 1, 0, 0, 0, 0, jL 1) ::
  (48, false, .lstore 7, 2, 0, 0, 0, 0, 0) ::
  (50, false, .iconst 3, 1, 0, 0, 0, jI 3, 0) ::
  (51, false, .istore 9, 2, 0, 0, 0, 0, 0) ::
  (53, true, .iload 9, 2, 0, 0, 0, 0, 0) ::
  (55, false, .iload_n 2, 1, 0, 0, 0, 0, 0) ::
  (56, false, .if_icmp .ge 42, 3, 64, 0, 0, 0, 0) ::
  (59, false, .lload 7, 2, 0, 0, 0, 0, 0) ::
  (61, false, .lload 7, 2, 0, 0, 0, 0, 0) ::
  (63, false, .lmul, 1, 0, 0, 0, 0, 0) ::
  (64, false, .iload_n 1, 1, 0, 0, 0, 0, 0) ::
  (65, false, .i2l, 1, 0, 0, 0, 0, 0) ::
  (66, false, .lsub, 1, 0, 0, 0, 0, 0) ::
  (67, false, .lconst 1, 1, 0, 0, 0, 0, jL 1) ::
  (68, false, .iload 9, 2, 0, 0, 0, 0, 0) ::
  (70, false, .iconst 1, 1, 0, 0, 0, jI 1, 0) ::
  (71, false, .iadd, 1, 0, 0, 0, 0, 0) ::
  (72, false, .lshl, 1, 0, 0, 0, 0, 0) ::
  cl_149_2
def cl_149_0 : List mj_E := (0, false, .iconst 1, 1, 0, 0, 0, jI 1, 0) ::
  (1, false, .iload_n 2, 1, 0, 0, 0, 0, 0) ::
  (2, false, .ishl, 1, 0, 0, 0, 0, 0) ::
  (3, false, .istore 5, 2, 0, 0, 0, 0, 0) ::
  (5, true, .iload_n 2, 1, 0, 0, 0, 0, 0) ::
  (6, false, .iconst 3, 1, 0, 0, 0, jI 3, 0) ::
  (7, false, .if_icmp .ge 8, 3, 9, 0, 0, 0, 0) ::
  (10, false, .iload 5, 2, 0, 0, 0, 0, 0) ::
  (12, false, .goto 5, 3, 10, 0, 0, 0, 0) ::
  (15, false, .bipush 8, 2, 0, 0, 0, jI 8, 0) ::
  (17, false, .istore 6, 2, 0, 0, 0, 0, 0) ::
  (19, false, .iload_n 1, 1, 0, 0, 0, 0, 0) ::
  (20, false, .iload 6, 2, 0, 0, 0, 0, 0) ::
  (22, false, .irem, 1, 0, 0, 0, 0, 0) ::
  (23, false, .iconst 1, 1, 0, 0, 0, jI 1, 0) ::
  (24, false, .iload 6, 2, 0, 0, 0, 0, 0) ::
  (26, false, .irem, 1, 0, 0, 0, 0, 0) ::
  (27, false, .if_icmp .eq 4, 3, 19, 0, 0, 0, 0) ::
  (30, false, .return_, 1, 0, 0, 0, 0, 0) ::
  (31, true, .iload_n 2, 1, 0, 0, 0, 0, 0) ::
  (32, false, .iconst 1, 1, 0, 0, 0, jI 1, 0) ::
  (33, false, .if_icmp .ne 14, 3, 30, 0, 0, 0, 0) ::
  (36, false, .aload_n 0, 1, 0, 0, 0, 0, 0) ::
  (37, false, .iload_n 3, 1, 0, 0, 0, 0, 0) ::
  cl_149_1
def cd_149 : List mj_E := cl_149_0
def cx_149 : mj_X := (0, [], [])
theorem tb_149 : mj_tab (mj_mt 149) cx_149 cd_149 mj_mh [(0, 0, 0), (0, 0, 0), (0, 0, 0), (0, 0, 0), (0, 0, 0), (0, 0, 0), (0, 0, 0), (0, 0, 0), (0, 0, 0), (0, 0, 0), (0, 0, 0), (0, 0, 0), (0, 0, 0), (0, 0, 0), (0, 0, 0), (0, 0, 0), (0, 0, 0), (0, 0, 0), (0, 0, 0), (0, 0, 0), (0, 0, 0), (0, 0, 0), (0, 0, 0), (0, 0, 0), (0, 0, 0), (0, 0, 0), (0, 0, 0), (0, 0, 0), (6025, 0, 0), (0, 0, 0), (0, 0, 0), (0, 0, 0), (0, 0, 0), (0, 0, 0), (0, 0, 0), (0, 0, 0), (0, 0, 0), (0, 0, 0), (0, 0, 0), (0, 0, 0), (0, 0, 0), (0, 0, 0), (0, 0, 0), (0, 0, 0), (0, 0, 0), (0, 0, 0), (0, 0, 0), (0, 0, 0), (0, 0, 0), (0, 0, 0), (0, 0, 0), (0, 0, 0), (0, 0, 0), (0, 0, 0), (0, 0, 0), (0, 0, 0), (0, 0, 0), (0, 0, 0), (0, 0, 0), (0, 0, 0), (0, 0, 0), (0, 0, 0), (0, 0, 0), (0, 0, 0), (0, 0, 0), (0, 0, 0), (0, 0, 0), (0, 0, 0), (0, 0, 0), (0, 0, 0), (0, 0, 0), (0, 0, 0), (0, 0, 0), (0, 0, 0), (0, 0, 0), (0, 0, 0), (0, 0, 0), (0, 0, 0), (0, 0, 0), (0, 0, 0), (0, 0, 0), (0, 0, 0), (0, 0, 0), (0, 0, 0), (0, 0, 0), (0, 0, 0), (0, 0, 0), (6025, 0, 0), (0, 0, 0), (0, 0, 0), (0, 0, 0), (0, 0, 0), (0, 0, 0), (0, 0, 0), (0, 0, 0), (0, 0, 0), (0, 0, 0), (0, 0, 0), (0, 0, 0), (0, 0, 0), (0, 0, 0), (0, 0, 0), (0, 0, 0), (6025, 0, 0), (0, 0, 0)] = true := mj_tab_f (by decide +kernel)
theorem ct_149 (G : mj_G) {h : mj_H} (L : isLay h) {a b : Nat} (hr : isRt h a b) {mv : Int32} (hl : isLc mv h []) {u m j : Nat} (hm : 1 ≤ m) (hu : u < 2 ^ m) (hu2 : u % 2 = 1) (hqb : 2 ^ (2 * j + m) ≤ 4000000) : mj_Ct G (mj_mt 149) 0 0 [.ref 73, .int (jI u), .int (jI m), .int (jI (2 ^ j : Nat)), .int (jI (2 ^ (2 * j + m) : Nat))] h (fun o h' => o = .returned none ∧ FrI [73, 76] h h' ∧ ∃ ls, isLc mv h' ls ∧ ls.length * ls.length ≤ 2 * 2 ^ (2 * j + m) ∧ RtQ (2 ^ (2 * j + m)) (fun x => ∃ y, x = 2 ^ j * y ∧ ((2 ^ m : Nat) : Int) ∣ (y : Int) * y - u) ls) := by
  have hq2 : 2 ^ (2 * j + m) = 2 ^ j * 2 ^ j * 2 ^ m := by rw [Nat.pow_add, show 2 * j = j + j by omega, Nat.pow_add]
  have hmb : m ≤ 21 := by
    rcases Nat.lt_or_ge 21 m with z | z
    · exfalso
      have h3 : 2 ^ 22 ≤ 2 ^ (2 * j + m) := Nat.pow_le_pow_right (by decide) (by omega)
      have h5 : (2 : Nat) ^ 22 = 4194304 := by decide
      omega
    · exact z
  have hs0 : 0 < 2 ^ j := Nat.pow_pos (by decide)
  have hM0 : 0 < 2 ^ m := Nat.pow_pos (by decide)
  have hsb : 2 ^ j * 2 ^ m ≤ 2 ^ (2 * j + m) := by
    rw [hq2, Nat.mul_assoc]
    have := Nat.mul_le_mul_right (2 ^ j * 2 ^ m) hs0
    omega
  have hsb1 : 2 ^ j ≤ 2 ^ j * 2 ^ m := Nat.le_mul_of_pos_right _ hM0
  have hMb1 : 2 ^ m ≤ 2 ^ j * 2 ^ m := Nat.le_mul_of_pos_left _ hs0
  have h2m : (2 : Int) ∣ ((2 ^ m : Nat) : Int) := Int.natCast_dvd_natCast.2 ⟨2 ^ (m - 1), by rw [Nat.mul_comm, ← Nat.pow_succ]; congr 1; omega⟩
  refine mj_Ct_of mj_ok tb_149 rfl rfl (Nat.le_of_ble_eq_true rfl) (fun Run hR => ?_)
  have fin : ∀ (w t y : Nat) (x6 x7 x8 x10 : Option Value), 2 ^ j * w * t = 2 ^ (2 * j + m) → 2 * t * (2 * t) ≤ 2 * 2 ^ (2 * j + m) → 0 < w → w % 4 = 0 → w ≤ 2 ^ m → y % 2 = 1 → y < 4000000 → (∀ z : Nat, ((2 ^ m : Nat) : Int) ∣ (z : Int) * z - u ↔ z % w = y % w ∨ z % w = w - y % w) → Run 114 (l149 (jI u) (jI m) (jI (2 ^ j : Nat)) (jI (2 ^ (2 * j + m) : Nat)) (jI (2 ^ m : Nat)) x6 (some (.long (jL y))) none (some (.int (jI w))) x10) [] h (0, 0) := by
    intro w t y x6 x7 x8 x10 hq ht hw hw4 hwm hy hyb hch
    have hrw := Nat.mod_lt y hw
    have hr2 : y % w % 2 = 1 := by rw [Nat.mod_mod_of_dvd y ⟨w / 2, by omega⟩]; exact hy
    have hsw : 2 ^ j * w ≤ 2 ^ j * 2 ^ m := Nat.mul_le_mul_left _ hwm
    have hsw0 : 0 < 2 ^ j * w := Nat.mul_pos hs0 hw
    have htb : t ≤ 2000 := by
      rcases Nat.lt_or_ge 2000 t with z | z
      · exfalso
        have : 2 * 2001 * (2 * 2001) ≤ 2 * t * (2 * t) := Nat.mul_le_mul (by omega) (by omega)
        omega
      · exact z
    have hym : jL (y : Int) % (jI (w : Int)).toInt64 = jL ((y % w : Nat) : Int) := by
      rw [jI_L (by omega) (by omega), jL_mod (by omega) (by omega) (by omega) (by omega)]
      rfl
    generalize hrr : y % w = r at *
    obtain ⟨f1, f2⟩ := fo_scale (s := 2 ^ j) (w := w) (r := r) (q := 2 ^ (2 * j + m)) (t := t) (f := t) hs0 hw hrw hq.symm (by rw [← hq, Nat.mul_comm]; exact Nat.le_refl _)
    obtain ⟨g1, g2⟩ := fo_scale (s := 2 ^ j) (w := w) (r := w - r) (q := 2 ^ (2 * j + m)) (t := t) (f := t) hs0 hw (by omega) hq.symm (by rw [← hq, Nat.mul_comm]; exact Nat.le_refl _)
    have hsr : 2 ^ j * r ≤ 2 ^ j * w := Nat.mul_le_mul_left _ (by omega)
    have hsr2 : 2 ^ j * (w - r) ≤ 2 ^ j * w := Nat.mul_le_mul_left _ (by omega)
    have c1 := ct_148 G L hr hl (x0 := 2 ^ j * r) (step := 2 ^ j * w) (q := 2 ^ (2 * j + m)) (f := t) ⟨hsw0, by omega⟩ (by omega) (by omega) (by rw [← hq, Nat.mul_comm]; exact Nat.le_refl _) (by rw [List.nil_append]; omega)
    rw [List.nil_append, Int.natCast_mul, Int.natCast_mul (2 ^ j) w, ← jI_mul, ← jI_mul] at c1
    have r137 : ∀ (h' : mj_H) (x6 x7 x8 : Option Value), isLc mv h' (foL (2 ^ j * w) (2 ^ (2 * j + m)) t (2 ^ j * r % (2 ^ j * w))) → FrI [73, 76] h h' → Run 137 (l149 (jI u) (jI m) (jI (2 ^ j : Nat)) (jI (2 ^ (2 * j + m) : Nat)) (jI (2 ^ m : Nat)) x6 x7 x8 (some (.int (jI w))) (some (.int (jI r)))) [] h' (0, 0) := by
      intro h' x6 x7 x8 hl' F
      have c2 := ct_148 G (L.fr F.1) (hr.fr F) hl' (x0 := 2 ^ j * (w - r)) (step := 2 ^ j * w) (q := 2 ^ (2 * j + m)) (f := t) ⟨hsw0, by omega⟩ (by omega) (by omega) (by rw [← hq, Nat.mul_comm]; exact Nat.le_refl _) (by rw [List.length_append]; omega)
      have ew : ((w - r : Nat) : Int) = (w : Int) - r := by omega
      rw [Int.natCast_mul, Int.natCast_mul (2 ^ j) w, ew, ← jI_mul, ← jI_mul, ← jI_sub] at c2
      refine hR 60 88 _ _ _ _ _ _ rfl ?_
      refine ⟨fun c => ?_, fun c => ?_⟩
      · simp (disch := omega) only [mj_lcm, jI_lt, jI_le, jI_eq, jL_lt, jL_le, jL_eq, jI_lt0, jI_0le, jI_0lt, jI_le0, jI_eq0, jL_eq0, jI_L, jI_add, jI_sub, jI_mul, jI_neg, jL_add, jL_sub, jL_mul, jL_neg, jL_I, jI_div, jI_mod, jL_div, jL_mod] at c
        omega
      · refine ⟨(L.fr F.1).K 73 rfl, jcallP c2 ?_⟩
        rintro o h3 ⟨rfl, hl3, F3⟩
        refine ⟨rfl, (F.trans F3).mono (by simp), _, hl3, ?_, ?_⟩
        · rw [List.length_append]
          exact Nat.le_trans (Nat.mul_le_mul (by omega) (by omega)) ht
        · refine (f1.app g1 ?_).congr ?_
          · rintro x ⟨y1, e1, k1⟩ ⟨y2, e2, k2⟩
            rw [e1] at e2
            have := Nat.eq_of_mul_eq_mul_left hs0 e2
            subst this
            omega
          · intro x _
            constructor
            · rintro (⟨y1, e1, k1⟩ | ⟨y1, e1, k1⟩)
              · exact ⟨y1, e1, (hch y1).2 (Or.inl k1)⟩
              · exact ⟨y1, e1, (hch y1).2 (Or.inr k1)⟩
            · rintro ⟨y1, e1, k1⟩
              rcases (hch y1).1 k1 with z | z
              · exact Or.inl ⟨y1, e1, z⟩
              · exact Or.inr ⟨y1, e1, z⟩
    have r123 : ∀ (rI : Int32) (x6 x7 x8 : Option Value), rI = jI r → Run 123 (l149 (jI u) (jI m) (jI (2 ^ j : Nat)) (jI (2 ^ (2 * j + m) : Nat)) (jI (2 ^ m : Nat)) x6 x7 x8 (some (.int (jI w))) (some (.int rI))) [] h (0, 0) := by
      rintro rI x6 x7 x8 rfl
      refine hR 60 79 _ _ _ _ _ _ rfl ?_
      refine ⟨L.K 73 rfl, jcallP c1 ?_⟩
      rintro o h3 ⟨rfl, hl3, F3⟩
      exact r137 h3 _ _ _ hl3 F3
    refine hR 60 73 _ _ _ _ _ _ rfl ?_
    refine ⟨?_, ?_⟩
    · rw [jI_L (by omega) (by omega)]
      simp (disch := omega) only [mj_lcm, jI_lt, jI_le, jI_eq, jL_lt, jL_le, jL_eq, jI_lt0, jI_0le, jI_0lt, jI_le0, jI_eq0, jL_eq0, jI_L, jI_add, jI_sub, jI_mul, jI_neg, jL_add, jL_sub, jL_mul, jL_neg, jL_I, jI_div, jI_mod, jL_div, jL_mod]
      omega
    · refine r123 _ _ _ _ ?_
      rw [hym, jL_I]
  have r53 : ∀ (n i y : Nat) (yL : Int64) (iI : Int32) (z6 : Int32) (x10 : Option Value), 3 ≤ m → i + n = m → 3 ≤ i → y % 2 = 1 → y < 2 ^ (i - 1) → ((2 ^ i : Nat) : Int) ∣ (y : Int) * y - u → yL = jL y → iI = jI i → Run 53 (l149 (jI u) (jI m) (jI (2 ^ j : Nat)) (jI (2 ^ (2 * j + m) : Nat)) (jI (2 ^ m : Nat)) (some (.int z6)) (some (.long yL)) none (some (.int iI)) x10) [] h (0, 0) := by
    intro n
    induction n with
    | zero =>
      rintro i y yL iI z6 x10 hm3 hin hi hy hyb hd rfl rfl
      have : i = m := by omega
      subst this
      have hw : 2 ^ i = 2 * 2 ^ (i - 1) := by rw [Nat.mul_comm, ← Nat.pow_succ]; congr 1; omega
      have hw4 : 2 ^ (i - 1) = 4 * 2 ^ (i - 3) := by
        rw [show (4 : Nat) = 2 ^ 2 by rfl, ← Nat.pow_add]
        congr 1
        omega
      have hw8 : 8 ≤ 2 ^ i := (show 2 ^ 3 ≤ 2 ^ i from Nat.pow_le_pow_right (by decide) hi)
      have r98 : ∀ (x6 x9 x10 : Option Value), Run 98 (l149 (jI u) (jI i) (jI (2 ^ j : Nat)) (jI (2 ^ (2 * j + i) : Nat)) (jI (2 ^ i : Nat)) x6 (some (.long (jL y))) none x9 x10) [] h (0, 0) := by
        intro x6 x9 x10
        have ed : jI ((2 ^ i : Nat) : Int) / jI 2 = jI ((2 ^ (i - 1) : Nat) : Int) := by
          rw [jI_div (by omega) (by omega) (by decide) (by decide), Int.tdiv_eq_ediv_of_nonneg (by omega)]
          congr 1
          omega
        have goal : ∀ (wI : Int32), wI = jI ((2 ^ (i - 1) : Nat) : Int) → Run 114 (l149 (jI u) (jI i) (jI (2 ^ j : Nat)) (jI (2 ^ (2 * j + i) : Nat)) (jI (2 ^ i : Nat)) x6 (some (.long (jL y))) none (some (.int wI)) x10) [] h (0, 0) := by
          rintro wI rfl
          refine fin (2 ^ (i - 1)) (2 * 2 ^ j) y x6 none none x10 ?_ ?_ (by omega) (by omega) (by omega) hy (by omega) (rts_two hi hy hd)
          · rw [hq2, hw]
            grind
          · rw [hq2]
            have k1 : 2 * (2 * 2 ^ j) * (2 * (2 * 2 ^ j)) = 2 * (2 ^ j * 2 ^ j * 8) := by grind
            rw [k1]
            exact Nat.mul_le_mul_left _ (Nat.mul_le_mul_left _ hw8)
        refine hR 60 64 _ _ _ _ _ _ rfl ?_
        refine ⟨fun c => ?_, fun c => ⟨by decide, ?_⟩⟩
        · simp (disch := omega) only [mj_lcm, jI_lt, jI_le, jI_eq, jL_lt, jL_le, jL_eq, jI_lt0, jI_0le, jI_0lt, jI_le0, jI_eq0, jL_eq0, jI_L, jI_add, jI_sub, jI_mul, jI_neg, jL_add, jL_sub, jL_mul, jL_neg, jL_I, jI_div, jI_mod, jL_div, jL_mod] at c
          omega
        · exact goal _ ed
      refine hR 60 34 _ _ _ _ _ _ rfl ?_
      refine ⟨fun c => ?_, fun c => ?_⟩
      · exact r98 _ _ _
      · simp (disch := omega) only [mj_lcm, jI_lt, jI_le, jI_eq, jL_lt, jL_le, jL_eq, jI_lt0, jI_0le, jI_0lt, jI_le0, jI_eq0, jL_eq0, jI_L, jI_add, jI_sub, jI_mul, jI_neg, jL_add, jL_sub, jL_mul, jL_neg, jL_I, jI_div, jI_mod, jL_div, jL_mod] at c
        omega
    | succ n ih =>
      rintro i y yL iI z6 x10 hm3 hin hi hy hyb hd rfl rfl
      have hiM : 2 ^ i ≤ 2 ^ m := Nat.pow_le_pow_right (by decide) (by omega)
      have hw : 2 ^ i = 2 * 2 ^ (i - 1) := by rw [Nat.mul_comm, ← Nat.pow_succ]; congr 1; omega
      have hw4 : 2 ^ (i - 1) = 4 * 2 ^ (i - 3) := by
        rw [show (4 : Nat) = 2 ^ 2 by rfl, ← Nat.pow_add]
        congr 1
        omega
      have hw1 : 2 ^ (i + 1) = 2 * 2 ^ i := by rw [Nat.pow_succ, Nat.mul_comm]
      have hyy : (y : Int) * y ≤ 4000000 * 4000000 := sq_le (by omega) (by omega)
      have hyy0 := sqn (y : Int)
      have emask : (jL (y : Int) * jL (y : Int) - (jI (u : Int)).toInt64) &&& (jL 1 <<< ((jI (i : Int) + jI 1).toInt64 &&& 63) - jL 1) = jL (((y : Int) * y - u) % 2 ^ (i + 1)) := by
        rw [jI_L (by omega) (by omega), jL_mul, jL_sub, jI_add, jL_shl (K := (i : Int) + 1) (i + 1) (by omega) (by omega), Int.one_mul, jL_sub, jL_mask (k := i + 1) (by omega) rfl]
      have eshl : jL (y : Int) + jL 1 <<< ((jI (i : Int) - jI 1).toInt64 &&& 63) = jL ((y + 2 ^ (i - 1) : Nat) : Int) := by
        rw [jI_sub, jL_shl (K := (i : Int) - 1) (i - 1) (by omega) (by omega), Int.one_mul, jL_add, Int.natCast_add, Int.natCast_pow]
        rfl
      have e2p : (2 : Int) ^ (i + 1) = 2 * ((2 ^ i : Nat) : Int) := by
        rw [Int.pow_succ, Int.mul_comm, Int.natCast_pow]
        rfl
      have hlo : 0 ≤ ((y : Int) * y - u) % 2 ^ (i + 1) := Int.emod_nonneg _ (by rw [e2p]; omega)
      have hhi : ((y : Int) * y - u) % 2 ^ (i + 1) < 2 ^ (i + 1) := Int.emod_lt_of_pos _ (by rw [e2p]; omega)
      have nx : ∀ (y' : Nat) (yL : Int64), y' % 2 = 1 → y' < 2 ^ i → ((2 ^ (i + 1) : Nat) : Int) ∣ (y' : Int) * y' - u → yL = jL y' → Run 53 (l149 (jI u) (jI m) (jI (2 ^ j : Nat)) (jI (2 ^ (2 * j + m) : Nat)) (jI (2 ^ m : Nat)) (some (.int z6)) (some (.long yL)) none (some (.int (jI i + jI 1))) x10) [] h (0, 0) := by
        intro y' yL a1 a2 a3 e
        exact ih (i + 1) y' _ _ _ _ hm3 (by omega) (by omega) a1 (by rw [Nat.add_sub_cancel]; exact a2) a3 e (jI_add _ _)
      refine hR 60 34 _ _ _ _ _ _ rfl ?_
      refine ⟨fun c => ?_, fun c => ⟨fun c2 => ?_, fun c2 => ?_⟩⟩
      · simp (disch := omega) only [mj_lcm, jI_lt, jI_le, jI_eq, jL_lt, jL_le, jL_eq, jI_lt0, jI_0le, jI_0lt, jI_le0, jI_eq0, jL_eq0, jI_L, jI_add, jI_sub, jI_mul, jI_neg, jL_add, jL_sub, jL_mul, jL_neg, jL_I, jI_div, jI_mod, jL_div, jL_mod] at c
        omega
      · rw [emask] at c2
        rw [e2p] at c2 hlo hhi
        simp (disch := omega) only [mj_lcm, jI_lt, jI_le, jI_eq, jL_lt, jL_le, jL_eq, jI_lt0, jI_0le, jI_0lt, jI_le0, jI_eq0, jL_eq0, jI_L, jI_add, jI_sub, jI_mul, jI_neg, jL_add, jL_sub, jL_mul, jL_neg, jL_I, jI_div, jI_mod, jL_div, jL_mod] at c2
        refine nx y _ hy (by omega) ?_ rfl
        rw [hw1, Int.natCast_mul]
        exact Int.dvd_of_emod_eq_zero c2
      · rw [emask] at c2
        rw [e2p] at c2 hlo hhi
        simp (disch := omega) only [mj_lcm, jI_lt, jI_le, jI_eq, jL_lt, jL_le, jL_eq, jI_lt0, jI_0le, jI_0lt, jI_le0, jI_eq0, jL_eq0, jI_L, jI_add, jI_sub, jI_mul, jI_neg, jL_add, jL_sub, jL_mul, jL_neg, jL_I, jI_div, jI_mod, jL_div, jL_mod] at c2
        refine nx (y + 2 ^ (i - 1)) _ (by omega) (by omega) ?_ eshl
        rw [hw1, Int.natCast_mul, Int.natCast_add]
        obtain ⟨z, hz⟩ := hd
        obtain ⟨y2, hy2⟩ : ∃ y2 : Int, (y : Int) = 2 * y2 + 1 := ⟨(y : Int) / 2, by omega⟩
        have hz1 : z % 2 = 1 := by
          rcases (show z % 2 = 0 ∨ z % 2 = 1 by omega) with k | k
          · exfalso
            apply c2
            refine Int.emod_eq_zero_of_dvd ⟨z / 2, ?_⟩
            obtain ⟨z2, hz2⟩ : ∃ z2, z = 2 * z2 := ⟨z / 2, by omega⟩
            rw [hz, hz2, Int.mul_ediv_cancel_left _ (by decide)]
            grind
          · exact k
        obtain ⟨z2, hz2⟩ : ∃ z2, z = 2 * z2 + 1 := ⟨z / 2, by omega⟩
        have k1 : ((2 ^ i : Nat) : Int) = 2 * ((2 ^ (i - 1) : Nat) : Int) := by omega
        have k2 : ((2 ^ (i - 1) : Nat) : Int) = 4 * ((2 ^ (i - 3) : Nat) : Int) := by omega
        rw [hz2, k1, k2] at hz
        rw [k1, k2]
        generalize ((2 ^ (i - 3) : Nat) : Int) = K at *
        refine ⟨z2 + 1 + y2 + K, ?_⟩
        have k3 : (((y : Int) + 4 * K) * (y + 4 * K) - u) = ((y : Int) * y - u) + 8 * K * y + 16 * (K * K) := by grind
        rw [show ((2 : Nat) : Int) = 2 by rfl, k3, hz, hy2]
        grind
  have r47 : ∀ (x6 x7 x8 x9 x10 : Option Value) (z6 : Int32), x6 = some (.int z6) → 2 ≤ m → (3 ≤ m → u % 8 = 1) → (m = 2 → u = 1) → Run 47 (l149 (jI u) (jI m) (jI (2 ^ j : Nat)) (jI (2 ^ (2 * j + m) : Nat)) (jI (2 ^ m : Nat)) x6 x7 x8 x9 x10) [] h (0, 0) := by
    rintro x6 x7 x8 x9 x10 z6 rfl h2 h8 h4
    rcases Nat.lt_or_ge m 3 with z | z
    · have : m = 2 := by omega
      subst this
      have hu1 := h4 rfl
      subst hu1
      have r98 : ∀ (x9 x10 : Option Value), Run 98 (l149 (jI ((1 : Nat) : Int)) (jI ((2 : Nat) : Int)) (jI (2 ^ j : Nat)) (jI (2 ^ (2 * j + 2) : Nat)) (jI (2 ^ 2 : Nat)) (some (.int z6)) (some (.long (jL ((1 : Nat) : Int)))) none x9 x10) [] h (0, 0) := by
        intro x9 x10
        refine hR 60 64 _ _ _ _ _ _ rfl ?_
        refine ⟨fun c => ?_, fun c => absurd rfl c⟩
        refine fin 4 (2 ^ j) 1 _ none none x10 ?_ ?_ (by decide) (by decide) (by decide) (by decide) (by decide) ?_
        · rw [hq2]
          grind
        · rw [hq2]
          have k1 : 2 * 2 ^ j * (2 * 2 ^ j) = 2 ^ j * 2 ^ j * 2 ^ 2 := by grind
          rw [k1]
          omega
        · intro y
          constructor
          · intro hd
            have := sq_odd (u := 1) (by decide) (M := ((2 ^ 2 : Nat) : Int)) h2m hd
            omega
          · intro hd
            obtain ⟨k, hk⟩ := sq_mod8 (y := y) (by omega)
            rw [hk]
            exact ⟨2 * k, by rw [show ((2 ^ 2 : Nat) : Int) = 4 by rfl, show ((1 : Nat) : Int) = 1 by rfl]; omega⟩
      have r53' : ∀ (x10 : Option Value), Run 53 (l149 (jI ((1 : Nat) : Int)) (jI ((2 : Nat) : Int)) (jI (2 ^ j : Nat)) (jI (2 ^ (2 * j + 2) : Nat)) (jI (2 ^ 2 : Nat)) (some (.int z6)) (some (.long (jL 1))) none (some (.int (jI 3))) x10) [] h (0, 0) := by
        intro x10
        refine hR 60 34 _ _ _ _ _ _ rfl ?_
        refine ⟨fun c => ?_, fun c => absurd (by decide) c⟩
        exact r98 _ _
      refine hR 60 30 _ _ _ _ _ _ rfl ?_
      exact r53' _
    · refine hR 60 30 _ _ _ _ _ _ rfl ?_
      refine r53 (m - 3) 3 1 _ _ _ _ z (by omega) (by decide) (by decide) (by decide) ?_ rfl rfl
      have := h8 z
      refine ⟨-((u / 8 : Nat) : Int), ?_⟩
      rw [show ((2 ^ 3 : Nat) : Int) = 8 by rfl, show ((1 : Nat) : Int) = 1 by rfl]
      omega
  have r31 : ∀ (z6 : Int32) (x7 x8 x9 x10 : Option Value), (3 ≤ m → u % 8 = 1) → (m = 2 → u = 1) → Run 31 (l149 (jI u) (jI m) (jI (2 ^ j : Nat)) (jI (2 ^ (2 * j + m) : Nat)) (jI (2 ^ m : Nat)) (some (.int z6)) x7 x8 x9 x10) [] h (0, 0) := by
    intro z6 x7 x8 x9 x10 h8 h4
    refine hR 60 19 _ _ _ _ _ _ rfl ?_
    refine ⟨fun c => ?_, fun c => ?_⟩
    · simp (disch := omega) only [mj_lcm, jI_lt, jI_le, jI_eq, jL_lt, jL_le, jL_eq, jI_lt0, jI_0le, jI_0lt, jI_le0, jI_eq0, jL_eq0, jI_L, jI_add, jI_sub, jI_mul, jI_neg, jL_add, jL_sub, jL_mul, jL_neg, jL_I, jI_div, jI_mod, jL_div, jL_mod] at c
      have : m = 1 := by omega
      subst this
      have hu1 : u = 1 := by
        have : (2 : Nat) ^ 1 = 2 := by decide
        omega
      subst hu1
      have hq : 2 ^ j * 2 * 2 ^ j = 2 ^ (2 * j + 1) := by
        rw [hq2]
        grind
      have htb : 2 ^ j ≤ 2000 := by
        rcases Nat.lt_or_ge 2000 (2 ^ j) with z | z
        · exfalso
          have : 2001 * 2001 ≤ 2 ^ j * 2 ^ j := Nat.mul_le_mul (by omega) (by omega)
          rw [hq2] at hqb
          omega
        · exact z
      obtain ⟨f1, f2⟩ := fo_scale (s := 2 ^ j) (w := 2) (r := 1) (q := 2 ^ (2 * j + 1)) (t := 2 ^ j) (f := 2 ^ j) hs0 (by decide) (by decide) hq.symm (by rw [← hq, Nat.mul_comm (2 ^ j * 2)]; exact Nat.le_refl _)
      rw [Nat.mul_one] at f1 f2
      have c1 := ct_148 G L hr hl (x0 := 2 ^ j) (step := 2 ^ j * 2) (q := 2 ^ (2 * j + 1)) (f := 2 ^ j) ⟨by omega, by omega⟩ (by omega) (by omega) (by rw [← hq, Nat.mul_comm (2 ^ j * 2)]; exact Nat.le_refl _) (by rw [List.nil_append]; omega)
      rw [List.nil_append, Int.natCast_mul (2 ^ j) 2, ← jI_mul] at c1
      refine ⟨L.K 73 rfl, jcallP c1 ?_⟩
      rintro o h3 ⟨rfl, hl3, F3⟩
      refine ⟨rfl, F3, _, hl3, ?_, ?_⟩
      · refine Nat.le_trans (Nat.mul_le_mul f2 f2) ?_
        rw [hq2]
        omega
      · refine f1.congr (fun x _ => ?_)
        constructor
        · rintro ⟨y, e, k⟩
          refine ⟨y, e, ?_⟩
          obtain ⟨v, hv⟩ := sq_mod8 k
          exact ⟨4 * v, by rw [hv, show ((2 ^ 1 : Nat) : Int) = 2 by rfl, show ((1 : Nat) : Int) = 1 by rfl]; omega⟩
        · rintro ⟨y, e, k⟩
          exact ⟨y, e, sq_odd (u := 1) (by decide) h2m k⟩
    · simp (disch := omega) only [mj_lcm, jI_lt, jI_le, jI_eq, jL_lt, jL_le, jL_eq, jI_lt0, jI_0le, jI_0lt, jI_le0, jI_eq0, jL_eq0, jI_L, jI_add, jI_sub, jI_mul, jI_neg, jL_add, jL_sub, jL_mul, jL_neg, jL_I, jI_div, jI_mod, jL_div, jL_mod] at c
      exact r47 _ _ _ _ _ z6 rfl (by omega) h8 h4
  have none8 : (3 ≤ m → u % 8 ≠ 1 → RtQ (2 ^ (2 * j + m)) (fun x => ∃ y, x = 2 ^ j * y ∧ ((2 ^ m : Nat) : Int) ∣ (y : Int) * y - u) []) := by
    intro h3 h4
    refine RtQ.nil ?_
    rintro x _ ⟨y, e, k⟩
    have hy := sq_odd hu2 h2m k
    obtain ⟨v, hv⟩ := sq_mod8 hy
    have h8 : (8 : Int) ∣ ((2 ^ m : Nat) : Int) := Int.natCast_dvd_natCast.2 (show 2 ^ 3 ∣ 2 ^ m from Nat.pow_dvd_pow 2 h3)
    have := Int.dvd_trans h8 k
    rw [hv] at this
    omega
  have none4 : (m = 2 → u ≠ 1 → RtQ (2 ^ (2 * j + m)) (fun x => ∃ y, x = 2 ^ j * y ∧ ((2 ^ m : Nat) : Int) ∣ (y : Int) * y - u) []) := by
    intro h3 h4
    refine RtQ.nil ?_
    rintro x _ ⟨y, e, k⟩
    have hy := sq_odd hu2 h2m k
    obtain ⟨v, hv⟩ := sq_mod8 hy
    subst h3
    rw [hv] at k
    have h9 : ((2 ^ 2 : Nat) : Int) = 4 := rfl
    have h9' : (2 : Nat) ^ 2 = 4 := rfl
    rw [h9] at k
    omega
  have r5 : ∀ (P : Int32) (x6 x7 x8 x9 x10 : Option Value), P = jI (2 ^ m : Nat) → Run 5 (l149 (jI u) (jI m) (jI (2 ^ j : Nat)) (jI (2 ^ (2 * j + m) : Nat)) P x6 x7 x8 x9 x10) [] h (0, 0) := by
    rintro P x6 x7 x8 x9 x10 rfl
    have e8 : jI (u : Int) % jI 8 = jI ((u % 8 : Nat) : Int) := by
      rw [jI_mod (by omega) (by omega) (by decide) (by decide)]
      rfl
    refine hR 60 4 _ _ _ _ _ _ rfl ?_
    refine ⟨fun c => ⟨by decide, by decide, fun c2 => ?_, fun c2 => ?_⟩, fun c => ?_⟩
    · simp (disch := omega) only [mj_lcm, jI_lt, jI_le, jI_eq, jL_lt, jL_le, jL_eq, jI_lt0, jI_0le, jI_0lt, jI_le0, jI_eq0, jL_eq0, jI_L, jI_add, jI_sub, jI_mul, jI_neg, jL_add, jL_sub, jL_mul, jL_neg, jL_I, jI_div, jI_mod, jL_div, jL_mod] at c
      rw [e8, show jI 1 % jI 8 = jI 1 from rfl] at c2
      simp (disch := omega) only [mj_lcm, jI_lt, jI_le, jI_eq, jL_lt, jL_le, jL_eq, jI_lt0, jI_0le, jI_0lt, jI_le0, jI_eq0, jL_eq0, jI_L, jI_add, jI_sub, jI_mul, jI_neg, jL_add, jL_sub, jL_mul, jL_neg, jL_I, jI_div, jI_mod, jL_div, jL_mod] at c2
      exact r31 _ _ _ _ _ (fun _ => by omega) (fun z => by omega)
    · simp (disch := omega) only [mj_lcm, jI_lt, jI_le, jI_eq, jL_lt, jL_le, jL_eq, jI_lt0, jI_0le, jI_0lt, jI_le0, jI_eq0, jL_eq0, jI_L, jI_add, jI_sub, jI_mul, jI_neg, jL_add, jL_sub, jL_mul, jL_neg, jL_I, jI_div, jI_mod, jL_div, jL_mod] at c
      rw [e8, show jI 1 % jI 8 = jI 1 from rfl] at c2
      simp (disch := omega) only [mj_lcm, jI_lt, jI_le, jI_eq, jL_lt, jL_le, jL_eq, jI_lt0, jI_0le, jI_0lt, jI_le0, jI_eq0, jL_eq0, jI_L, jI_add, jI_sub, jI_mul, jI_neg, jL_add, jL_sub, jL_mul, jL_neg, jL_I, jI_div, jI_mod, jL_div, jL_mod] at c2
      exact ⟨rfl, FrI.refl _ _, [], hl, Nat.zero_le _, none8 (by omega) (by omega)⟩
    · simp (disch := omega) only [mj_lcm, jI_lt, jI_le, jI_eq, jL_lt, jL_le, jL_eq, jI_lt0, jI_0le, jI_0lt, jI_le0, jI_eq0, jL_eq0, jI_L, jI_add, jI_sub, jI_mul, jI_neg, jL_add, jL_sub, jL_mul, jL_neg, jL_I, jI_div, jI_mod, jL_div, jL_mod] at c
      have e1 : jI (u : Int) % jI ((2 ^ m : Nat) : Int) = jI (u : Int) := by
        rw [jI_mod (by omega) (by omega) (by omega) (by omega), Int.tmod_eq_emod_of_nonneg (by omega), Int.emod_eq_of_lt (by omega) (by omega)]
      have hM2 : 2 ≤ 2 ^ m := (show 2 ^ 1 ≤ 2 ^ m from Nat.pow_le_pow_right (by decide) hm)
      have e2 : jI 1 % jI ((2 ^ m : Nat) : Int) = jI 1 := by
        rw [jI_mod (by omega) (by omega) (by omega) (by omega), Int.tmod_eq_emod_of_nonneg (by omega), Int.emod_eq_of_lt (by omega) (by omega)]
      refine ⟨?_, ?_, fun c2 => ?_, fun c2 => ?_⟩
      · simp (disch := omega) only [mj_lcm, jI_lt, jI_le, jI_eq, jL_lt, jL_le, jL_eq, jI_lt0, jI_0le, jI_0lt, jI_le0, jI_eq0, jL_eq0, jI_L, jI_add, jI_sub, jI_mul, jI_neg, jL_add, jL_sub, jL_mul, jL_neg, jL_I, jI_div, jI_mod, jL_div, jL_mod]
        omega
      · simp (disch := omega) only [mj_lcm, jI_lt, jI_le, jI_eq, jL_lt, jL_le, jL_eq, jI_lt0, jI_0le, jI_0lt, jI_le0, jI_eq0, jL_eq0, jI_L, jI_add, jI_sub, jI_mul, jI_neg, jL_add, jL_sub, jL_mul, jL_neg, jL_I, jI_div, jI_mod, jL_div, jL_mod]
        omega
      · rw [e1, e2] at c2
        simp (disch := omega) only [mj_lcm, jI_lt, jI_le, jI_eq, jL_lt, jL_le, jL_eq, jI_lt0, jI_0le, jI_0lt, jI_le0, jI_eq0, jL_eq0, jI_L, jI_add, jI_sub, jI_mul, jI_neg, jL_add, jL_sub, jL_mul, jL_neg, jL_I, jI_div, jI_mod, jL_div, jL_mod] at c2
        exact r31 _ _ _ _ _ (fun z => by omega) (fun z => by omega)
      · rw [e1, e2] at c2
        simp (disch := omega) only [mj_lcm, jI_lt, jI_le, jI_eq, jL_lt, jL_le, jL_eq, jI_lt0, jI_0le, jI_0lt, jI_le0, jI_eq0, jL_eq0, jI_L, jI_add, jI_sub, jI_mul, jI_neg, jL_add, jL_sub, jL_mul, jL_neg, jL_I, jI_div, jI_mod, jL_div, jL_mod] at c2
        refine ⟨rfl, FrI.refl _ _, [], hl, Nat.zero_le _, none4 ?_ (by omega)⟩
        rcases Nat.lt_or_ge m 2 with z | z
        · have : m = 1 := by omega
          subst this
          have : (2 : Nat) ^ 1 = 2 := by decide
          omega
        · omega
  refine hR 60 0 _ _ _ _ _ _ rfl ?_
  refine r5 _ _ _ _ _ _ ?_
  rw [jI_shl (K := (m : Int)) m (by omega) rfl, Int.one_mul, Int.natCast_pow]
  rfl
