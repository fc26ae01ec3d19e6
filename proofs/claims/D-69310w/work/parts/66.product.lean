/-! contracts: the product of two names -/
theorem max_bd {u a : Nat} (h : u ≤ max 1 a) (ha : a ≤ 1024) : u ≤ 1024 := by omega
theorem s_bd {s : Int} (h : -1024 ≤ s ∧ s ≤ 1024) : s.natAbs ≤ 1024 := by omega
theorem gcd_bd {n : Nat} (h : (n : Int) ≤ 1024) : (n : Int).natAbs ≤ 1024 := by omega
theorem vld_ring {d w : Int} {n : Nat} {A : Nat → pI} {nxt : Nat → Nat} (hx : isNx d w n A nxt) (hd : 0 < d) : ∀ (j k : Nat), k < n → ∃ k', k' < n ∧ itF d w j (fmP d (A k)) = fmP d (A k')
  | 0, k, hk => ⟨k, hk, rfl⟩
  | j + 1, k, hk => by
    obtain ⟨x1, -, -, x4, -⟩ := hx k hk
    show ∃ k', k' < n ∧ itF d w j (nx d w (fmP d (A k))) = _
    rw [x4 hd]
    exact vld_ring hx hd j (nxt k) x1
/-- the pure part of a product: a middle number, moved near 0 -/
theorem compose_pure {d : Int} {f g : Fm} (hn : nsq d) (hf : Vld d f) (hg : Vld d g) {u1 v1 u2 v2 n g0 s : Int} (hs : f.2.1 + g.2.1 = 2 * s) (hg0 : u1 * f.1 + v1 * g.1 = g0) (hng : u2 * g0 + v2 * s = n) (d1 : n ∣ f.1) (d2 : n ∣ g.1) (d3 : n ∣ s) (hn0 : n ≠ 0) : ∃ B C : Int, n * B = (u2 * u1) * f.1 * g.2.1 + (u2 * v1) * g.1 * f.2.1 + v2 * ((f.2.1 * g.2.1 + d) / 2) ∧ (f.2.1 * g.2.1 + d) % 2 = 0 ∧ Cmp f g (f.1 / n * (g.1 / n), B, C) := by
  obtain ⟨A, hA⟩ := d1
  obtain ⟨A', hA'⟩ := d2
  obtain ⟨S, hS⟩ := d3
  have hdf := hf.1
  have hdg := hg.1
  obtain ⟨a, b, c⟩ := f
  obtain ⟨a', b', c'⟩ := g
  simp only [dF] at hdf hdg
  simp only at hs hg0 hA hA' ⊢
  have hδ : b' - b = 2 * (s - b) := by omega
  obtain ⟨B, C, h1, h2⟩ := cmp_gcd (d := d) (n := n) (u := u2 * u1) (v := u2 * v1) (w := v2) (s := s) (δ := s - b) (A := A) (A' := A') (S := S) hdf hdg hs hδ hn0 hA hA' hS (by rw [← hng, ← hg0]; grind)
  have e2 : b * b' + d = 2 * (s * s - a * c - a' * c') := by
    have e3 : b' = 2 * s - b := by omega
    rw [e3] at hdg ⊢
    grind
  have e4 : (b * b' + d) / 2 = s * s - a * c - a' * c' := by omega
  have e5 : a / n = A := by
    rw [hA]
    exact Int.mul_ediv_cancel_left _ hn0
  have e6 : a' / n = A' := by
    rw [hA']
    exact Int.mul_ediv_cancel_left _ hn0
  refine ⟨B, C, ?_, by omega, ?_⟩
  · rw [e4]
    exact h1
  · rw [e5, e6]
    exact h2
abbrev l80 (sL aL : Option Value) (s2 a2 u1 u2 v1 v2 a1 a0 z1 z2 b1 b2 x : Option Value) : mj_Ls := [some (.ref 53), some (.ref 60), some (.ref 58), some (.ref 59), sL, s2, aL, a2, u1, u2, v1, v2, a1, a0, z1, z2, b1, b2, x]
abbrev inCp (a : Nat) : Prop := (54 ≤ a ∧ a ≤ 57) ∨ a = 60
/-- FormHouse$Composer.compose(LFormHouse$Form;LFormHouse$Form;LFormHouse$Form;)V; cuts at [15, 55, 72, 89, 106, 117, 177, 186, 205] -/
def cl_80_5 : List mj_E := (233, false, .invokevirtual 80, 3, 24, 3, 6, 0, 0) ::
  (236, false, .aload_n 0, 1, 0, 0, 0, 0, 0) ::
  (237, false, .aload_n 0, 1, 0, 0, 0, 0, 0) ::
  (238, false, .getfield 22, 3, 9, 3, 2, 0, 0) ::
  (241, false, .invokevirtual 84, 3, 82, 1, 9, 0, 0) ::
  (244, false, .istore 18, 2, 0, 0, 0, 0, 0) ::
  (246, false, .aload_n 1, 1, 0, 0, 0, 0, 0) ::
  (247, false, .aload_n 0, 1, 0, 0, 0, 0, 0) ::
  (248, false, .getfield 22, 3, 9, 3, 2, 0, 0) ::
  (251, false, .invokevirtual 87, 3, 25, 1, 6, 0, 0) ::
  (254, false, .return_, 1, 0, 0, 0, 0, 0) ::
  []
def cl_80_4 : List mj_E := (189, false, .lload 16, 2, 0, 0, 0, 0, 0) ::
  (191, false, .lmul, 1, 0, 0, 0, 0, 0) ::
  (192, false, .lload 14, 2, 0, 0, 0, 0, 0) ::
  (194, false, .lcmp, 1, 0, 0, 0, 0, 0) ::
  (195, false, .ifCond .le 10, 3, 105, 0, 0, 0, 0) ::
  (198, false, .lload 16, 2, 0, 0, 0, 0, 0) ::
  (200, false, .lload 14, 2, 0, 0, 0, 0, 0) ::
  (202, false, .lsub, 1, 0, 0, 0, 0, 0) ::
  (203, false, .lstore 16, 2, 0, 0, 0, 0, 0) ::
  (205, true, .aload_n 0, 1, 0, 0, 0, 0, 0) ::
  (206, false, .getfield 22, 3, 9, 3, 2, 0, 0) ::
  (209, false, .lload 12, 2, 0, 0, 0, 0, 0) ::
  (211, false, .lload 16, 2, 0, 0, 0, 0, 0) ::
  (213, false, .lload 16, 2, 0, 0, 0, 0, 0) ::
  (215, false, .lload 16, 2, 0, 0, 0, 0, 0) ::
  (217, false, .lmul, 1, 0, 0, 0, 0, 0) ::
  (218, false, .aload_n 0, 1, 0, 0, 0, 0, 0) ::
  (219, false, .getfield 29, 3, 9, 0, 2, 0, 0) ::
  (222, false, .getfield 71, 3, 3, 0, 1, 0, 0) ::
  (225, false, .lsub, 1, 0, 0, 0, 0, 0) ::
  (226, false, .ldc2_w 78, 3, 0, 0, 0, 0, jL 4) ::
  (229, false, .lload 12, 2, 0, 0, 0, 0, 0) ::
  (231, false, .lmul, 1, 0, 0, 0, 0, 0) ::
  (232, false, .ldiv, 1, 0, 0, 0, 0, 0) ::
  cl_80_5
def cl_80_3 : List mj_E := (142, false, .aload_n 0, 1, 0, 0, 0, 0, 0) ::
  (143, false, .getfield 16, 3, 9, 2, 2, 0, 0) ::
  (146, false, .getfield 62, 3, 10, 2, 1, 0, 0) ::
  (149, false, .aload_n 2, 1, 0, 0, 0, 0, 0) ::
  (150, false, .getfield 43, 3, 6, 1, 1, 0, 0) ::
  (153, false, .aload_n 3, 1, 0, 0, 0, 0, 0) ::
  (154, false, .getfield 43, 3, 6, 1, 1, 0, 0) ::
  (157, false, .lmul, 1, 0, 0, 0, 0, 0) ::
  (158, false, .aload_n 0, 1, 0, 0, 0, 0, 0) ::
  (159, false, .getfield 29, 3, 9, 0, 2, 0, 0) ::
  (162, false, .getfield 71, 3, 3, 0, 1, 0, 0) ::
  (165, false, .ladd, 1, 0, 0, 0, 0, 0) ::
  (166, false, .ldc2_w 47, 3, 0, 0, 0, 0, jL 2) ::
  (169, false, .ldiv, 1, 0, 0, 0, 0, 0) ::
  (170, false, .lmul, 1, 0, 0, 0, 0, 0) ::
  (171, false, .ladd, 1, 0, 0, 0, 0, 0) ::
  (172, false, .lload 6, 2, 0, 0, 0, 0, 0) ::
  (174, false, .ldiv, 1, 0, 0, 0, 0, 0) ::
  (175, false, .lstore 16, 2, 0, 0, 0, 0, 0) ::
  (177, true, .lload 16, 2, 0, 0, 0, 0, 0) ::
  (179, false, .lload 14, 2, 0, 0, 0, 0, 0) ::
  (181, false, .invokestatic 74, 3, 29, 2, 0, 0, 0) ::
  (184, false, .lstore 16, 2, 0, 0, 0, 0, 0) ::
  (186, true, .ldc2_w 47, 3, 0, 0, 0, 0, jL 2) ::
  cl_80_4
def cl_80_2 : List mj_E := (100, false, .lload 6, 2, 0, 0, 0, 0, 0) ::
  (102, false, .ldiv, 1, 0, 0, 0, 0, 0) ::
  (103, false, .lmul, 1, 0, 0, 0, 0, 0) ::
  (104, false, .lstore 12, 2, 0, 0, 0, 0, 0) ::
  (106, true, .ldc2_w 47, 3, 0, 0, 0, 0, jL 2) ::
  (109, false, .lload 12, 2, 0, 0, 0, 0, 0) ::
  (111, false, .invokestatic 65, 3, 28, 1, 0, 0, 0) ::
  (114, false, .lmul, 1, 0, 0, 0, 0, 0) ::
  (115, false, .lstore 14, 2, 0, 0, 0, 0, 0) ::
  (117, true, .lload 8, 2, 0, 0, 0, 0, 0) ::
  (119, false, .aload_n 2, 1, 0, 0, 0, 0, 0) ::
  (120, false, .getfield 49, 3, 6, 0, 1, 0, 0) ::
  (123, false, .lmul, 1, 0, 0, 0, 0, 0) ::
  (124, false, .aload_n 3, 1, 0, 0, 0, 0, 0) ::
  (125, false, .getfield 43, 3, 6, 1, 1, 0, 0) ::
  (128, false, .lmul, 1, 0, 0, 0, 0, 0) ::
  (129, false, .lload 10, 2, 0, 0, 0, 0, 0) ::
  (131, false, .aload_n 3, 1, 0, 0, 0, 0, 0) ::
  (132, false, .getfield 49, 3, 6, 0, 1, 0, 0) ::
  (135, false, .lmul, 1, 0, 0, 0, 0, 0) ::
  (136, false, .aload_n 2, 1, 0, 0, 0, 0, 0) ::
  (137, false, .getfield 43, 3, 6, 1, 1, 0, 0) ::
  (140, false, .lmul, 1, 0, 0, 0, 0, 0) ::
  (141, false, .ladd, 1, 0, 0, 0, 0, 0) ::
  cl_80_3
def cl_80_1 : List mj_E := (50, false, .getfield 56, 3, 10, 0, 1, 0, 0) ::
  (53, false, .lstore 6, 2, 0, 0, 0, 0, 0) ::
  (55, true, .aload_n 0, 1, 0, 0, 0, 0, 0) ::
  (56, false, .getfield 16, 3, 9, 2, 2, 0, 0) ::
  (59, false, .getfield 59, 3, 10, 1, 1, 0, 0) ::
  (62, false, .aload_n 0, 1, 0, 0, 0, 0, 0) ::
  (63, false, .getfield 10, 3, 9, 1, 2, 0, 0) ::
  (66, false, .getfield 59, 3, 10, 1, 1, 0, 0) ::
  (69, false, .lmul, 1, 0, 0, 0, 0, 0) ::
  (70, false, .lstore 8, 2, 0, 0, 0, 0, 0) ::
  (72, true, .aload_n 0, 1, 0, 0, 0, 0, 0) ::
  (73, false, .getfield 16, 3, 9, 2, 2, 0, 0) ::
  (76, false, .getfield 59, 3, 10, 1, 1, 0, 0) ::
  (79, false, .aload_n 0, 1, 0, 0, 0, 0, 0) ::
  (80, false, .getfield 10, 3, 9, 1, 2, 0, 0) ::
  (83, false, .getfield 62, 3, 10, 2, 1, 0, 0) ::
  (86, false, .lmul, 1, 0, 0, 0, 0, 0) ::
  (87, false, .lstore 10, 2, 0, 0, 0, 0, 0) ::
  (89, true, .aload_n 2, 1, 0, 0, 0, 0, 0) ::
  (90, false, .getfield 49, 3, 6, 0, 1, 0, 0) ::
  (93, false, .lload 6, 2, 0, 0, 0, 0, 0) ::
  (95, false, .ldiv, 1, 0, 0, 0, 0, 0) ::
  (96, false, .aload_n 3, 1, 0, 0, 0, 0, 0) ::
  (97, false, .getfield 49, 3, 6, 0, 1, 0, 0) ::
  cl_80_2
def cl_80_0 : List mj_E := (0, false, .aload_n 2, 1, 0, 0, 0, 0, 0) ::
  (1, false, .getfield 43, 3, 6, 1, 1, 0, 0) ::
  (4, false, .aload_n 3, 1, 0, 0, 0, 0, 0) ::
  (5, false, .getfield 43, 3, 6, 1, 1, 0, 0) ::
  (8, false, .ladd, 1, 0, 0, 0, 0, 0) ::
  (9, false, .ldc2_w 47, 3, 0, 0, 0, 0, jL 2) ::
  (12, false, .ldiv, 1, 0, 0, 0, 0, 0) ::
  (13, false, .lstore 4, 2, 0, 0, 0, 0, 0) ::
  (15, true, .aload_n 0, 1, 0, 0, 0, 0, 0) ::
  (16, false, .getfield 10, 3, 9, 1, 2, 0, 0) ::
  (19, false, .aload_n 2, 1, 0, 0, 0, 0, 0) ::
  (20, false, .getfield 49, 3, 6, 0, 1, 0, 0) ::
  (23, false, .aload_n 3, 1, 0, 0, 0, 0, 0) ::
  (24, false, .getfield 49, 3, 6, 0, 1, 0, 0) ::
  (27, false, .invokevirtual 52, 3, 81, 2, 10, 0, 0) ::
  (30, false, .aload_n 0, 1, 0, 0, 0, 0, 0) ::
  (31, false, .getfield 16, 3, 9, 2, 2, 0, 0) ::
  (34, false, .aload_n 0, 1, 0, 0, 0, 0, 0) ::
  (35, false, .getfield 10, 3, 9, 1, 2, 0, 0) ::
  (38, false, .getfield 56, 3, 10, 0, 1, 0, 0) ::
  (41, false, .lload 4, 2, 0, 0, 0, 0, 0) ::
  (43, false, .invokevirtual 52, 3, 81, 2, 10, 0, 0) ::
  (46, false, .aload_n 0, 1, 0, 0, 0, 0, 0) ::
  (47, false, .getfield 16, 3, 9, 2, 2, 0, 0) ::
  cl_80_1
def cd_80 : List mj_E := cl_80_0
def cx_80 : mj_X := (0, [], [])
theorem tb_80 : mj_tab (mj_mt 80) cx_80 cd_80 mj_mh [(0, 0, 0), (1166, 0, 0), (0, 0, 0), (1166, 0, 0), (0, 0, 0), (4123, 0, 0), (0, 0, 0), (0, 0, 0), (0, 0, 0), (2052, 0, 0), (0, 0, 0), (1159, 0, 0), (0, 0, 0), (1159, 0, 0), (4124, 0, 0), (0, 0, 0), (2053, 0, 0), (0, 0, 0), (2052, 0, 0), (2037, 0, 0), (0, 0, 0), (4124, 0, 0), (0, 0, 0), (2053, 0, 0), (2037, 0, 0), (0, 0, 0), (0, 0, 0), (2053, 0, 0), (2039, 0, 0), (0, 0, 0), (2052, 0, 0), (2039, 0, 0), (0, 0, 0), (0, 0, 0), (0, 0, 0), (2053, 0, 0), (2039, 0, 0), (0, 0, 0), (2052, 0, 0), (2041, 0, 0), (0, 0, 0), (0, 0, 0), (0, 0, 0), (1159, 0, 0), (0, 0, 0), (0, 0, 0), (0, 0, 0), (1159, 0, 0), (0, 0, 0), (0, 0, 0), (0, 0, 0), (0, 0, 0), (4123, 0, 0), (0, 0, 0), (4128, 0, 0), (0, 0, 0), (0, 0, 0), (0, 0, 0), (0, 0, 0), (1159, 0, 0), (0, 0, 0), (0, 0, 0), (1166, 0, 0), (0, 0, 0), (0, 0, 0), (0, 0, 0), (1159, 0, 0), (0, 0, 0), (0, 0, 0), (1166, 0, 0), (0, 0, 0), (0, 0, 0), (0, 0, 0), (2053, 0, 0), (2041, 0, 0), (0, 0, 0), (1166, 0, 0), (0, 0, 0), (1166, 0, 0), (0, 0, 0), (0, 0, 0), (2051, 0, 0), (1074, 0, 0), (0, 0, 0), (4123, 0, 0), (0, 0, 0), (0, 0, 0), (0, 0, 0), (0, 0, 0), (0, 0, 0), (0, 0, 0), (0, 0, 0), (0, 0, 0), (4129, 0, 0), (0, 0, 0), (4123, 0, 0), (0, 0, 0), (0, 0, 0), (0, 0, 0), (0, 0, 0), (0, 0, 0), (0, 0, 0), (0, 0, 0), (0, 0, 0), (0, 0, 0), (0, 0, 0), (2054, 0, 0), (0, 0, 0), (0, 0, 0), (0, 0, 0), (0, 0, 0), (0, 0, 0), (0, 0, 0), (2051, 0, 0), (1074, 0, 0), (0, 0, 0), (4130, 0, 0), (0, 0, 0), (0, 0, 0), (0, 0, 0), (4131, 0, 0), (0, 0, 0), (0, 0, 0), (2054, 0, 0), (4132, 0, 0), (0, 0, 0), (0, 0, 0), (0, 0, 0), (2054, 0, 0), (4146, 0, 0), (0, 0, 0)] = true := mj_tab_f (by decide +kernel)
theorem ct_80 (G : mj_G) {h : mj_H} (L : isLay h) {d w : Int} {f g : Fm} {n : Nat} {A : Nat → pI} {nxt : Nat → Nat} (hr : isRr h 7 d w) (h1 : isFm h 58 f) (h2 : isFm h 59 g) (hd : -1048576 ≤ d ∧ d ≤ 1048576) (hnsq : nsq d) (hw : -1 ≤ w ∧ w < 2147483648) (hf : Vld d f) (hg : Vld d g) (bf : (-1024 ≤ f.1 ∧ f.1 ≤ 1024) ∧ (-1024 ≤ f.2.1 ∧ f.2.1 ≤ 1024)) (bg : (-1024 ≤ g.1 ∧ g.1 ≤ 1024) ∧ (-1024 ≤ g.2.1 ∧ g.2.1 ≤ 1024)) (hx : isNx d w n A nxt) (hred : ∀ F, Vld d F → okF F → ∃ m, m < 2147483648 ∧ trm d w m F ∧ ∃ k, k < n ∧ itF d w m F = fmP d (A k)) (hring : 0 < d → ∀ k, k < n → ∃ N, isRing d w (fmP d (A k)) N) : mj_Ct G (mj_mt 80) 0 0 [.ref 53, .ref 60, .ref 58, .ref 59] h (fun o h' => o = .returned none ∧ (∃ F k, Cmp f g F ∧ k < n ∧ Eqv F (fmP d (A k)) ∧ isFm h' 60 (fmP d (A k))) ∧ Fr inCp noT h h') := by
  have hd0 : d ≠ 0 := fun e => hnsq 0 (by rw [e]; rfl)
  have ha1 := vld_1 hnsq hf
  have hg1 := vld_1 hnsq hg
  obtain ⟨s, hs⟩ : ∃ s, f.2.1 + g.2.1 = 2 * s := by
    obtain ⟨m, hm⟩ := par_d (hf.1.trans hg.1.symm)
    exact ⟨f.2.1 + m, by omega⟩
  have hsb : -1024 ≤ s ∧ s ≤ 1024 := by omega
  have hfn : f.1.natAbs ≤ 1024 := by omega
  have hgn : g.1.natAbs ≤ 1024 := by omega
  refine mj_Ct_of mj_ok tb_80 rfl rfl (Nat.le_of_ble_eq_true rfl) (fun Run hR => ?_)
  -- the form is laid, settled and given
  have r205 : ∀ (a b B C : Int) (h' : mj_H) (aL bL : Int64) (x1 x2 x3 x4 x5 x6 x7 x8 x9 x10 x18 : Option Value), Cmp f g (a, B, C) → (∃ e, b = B + 2 * a * e) → (-1048576 ≤ a ∧ a ≤ 1048576) → (-1048576 ≤ b ∧ b ≤ 1048576) → (b.natAbs ≤ a.natAbs) → isRr h' 7 d w → Fr inCp noT h h' → aL = jL a → bL = jL b → Run 205 (l80 x1 x2 x3 x4 x5 x6 x7 x8 (some (.long aL)) none x9 x10 (some (.long bL)) none x18) [] h' (0, 0) := by
    rintro a b B C h' aL bL x1 x2 x3 x4 x5 x6 x7 x8 x9 x10 x18 hc ⟨e, he⟩ ba bb bab hr' FR rfl rfl
    have L0 := L.F FR (fun _ z => z.elim)
    have hv := cmp_vld hnsq hf hg hc
    have ha0 : a ≠ 0 := vld_1 hnsq hv
    have hsl := eqv_slide a B C e
    rw [← he] at hsl
    have hv2 := vld_eqv hsl hv
    have hcc : (b * b - d).tdiv (4 * a) = a * e * e + B * e + C := by
      have hD := hv2.1
      simp only [dF] at hD
      rw [show b * b - d = (4 * a) * (a * e * e + B * e + C) by rw [← hD]; grind]
      exact Int.mul_tdiv_cancel_left _ (by omega)
    rw [← hcc] at hsl hv2
    have hbb : b * b ≤ 1048576 * 1048576 := by
      have := sq_le (x := (b.natAbs : Int)) (y := 1048576) (by omega) (by omega)
      rw [← Int.natCast_mul, ← Int.natAbs_mul, Int.natAbs_of_nonneg (sqn b)] at this
      exact this
    have hbb0 := sqn b
    have hc31 : -2147483648 < (b * b - d).tdiv (4 * a) ∧ (b * b - d).tdiv (4 * a) < 2147483648 := by
      have hD := hv2.1
      simp only [dF] at hD
      generalize (b * b - d).tdiv (4 * a) = c at hD
      -- 4 a c = b b - d, b b at most a a
      have hba2 : b * b ≤ a * a := by
        have := sq_le (x := (b.natAbs : Int)) (y := (a.natAbs : Int)) (by omega) (by omega)
        rw [← Int.natCast_mul, ← Int.natAbs_mul, Int.natAbs_of_nonneg (sqn b), ← Int.natCast_mul, ← Int.natAbs_mul, Int.natAbs_of_nonneg (sqn a)] at this
        exact this
      have h4 : (4 * a * c).natAbs ≤ a.natAbs * a.natAbs + 1048576 := by
        have e1 : (a.natAbs : Int) * a.natAbs = a * a := by rw [← Int.natCast_mul, ← Int.natAbs_mul, Int.natAbs_of_nonneg (sqn a)]
        have e2 : ((a.natAbs * a.natAbs : Nat) : Int) = a * a := by rw [Int.natCast_mul]; exact e1
        omega
      rw [Int.natAbs_mul, Int.natAbs_mul] at h4
      have h5 : (4 : Int).natAbs = 4 := rfl
      rw [h5] at h4
      have h6 : a.natAbs * (4 * c.natAbs) ≤ a.natAbs * (a.natAbs + 1048576) := by
        rw [Nat.mul_add]
        have : 1 * 1048576 ≤ a.natAbs * 1048576 := Nat.mul_le_mul_right _ (by omega)
        have e3 : 4 * a.natAbs * c.natAbs = a.natAbs * (4 * c.natAbs) := by grind
        omega
      have h7 := Nat.le_of_mul_le_mul_left h6 (by omega)
      omega
    have hc0 := nsq_3 hnsq hv2.1
    simp only at hc0
    have hok : okF (a, b, (b * b - d).tdiv (4 * a)) := ⟨by simp only; omega, by simp only; omega, hc31, hc0⟩
    obtain ⟨m, m1, m2, k, k1, k2⟩ := hred _ hv2 hok
    have hokk := (hx k k1).2.2.1
    have heq1 := (it_eqv (w := w) hnsq m _ hv2.1).1
    rw [k2] at heq1
    have hfin : ∀ (j : Nat), (d < 0 → j = 0) → ∃ k', k' < n ∧ itF d w j (itF d w m (a, b, (b * b - d).tdiv (4 * a))) = fmP d (A k') ∧ Eqv (a, B, C) (fmP d (A k')) := by
      intro j hj
      rw [k2]
      rcases Int.lt_or_gt_of_ne hd0 with z | z
      · rw [hj z]
        exact ⟨k, k1, rfl, eqv_trans hsl heq1⟩
      · obtain ⟨k', q1, q2⟩ := vld_ring hx z j k k1
        refine ⟨k', q1, q2, ?_⟩
        have heq2 := (it_eqv (w := w) hnsq j (fmP d (A k)) (by rw [← k2, (it_eqv (w := w) hnsq m _ hv2.1).2])).1
        rw [q2] at heq2
        exact eqv_trans hsl (eqv_trans heq1 heq2)
    have c24 := ct_24 G (h := h') (f := 56) (L0.K 56 rfl) (jL a) (jL b) (jL ((b * b - d).tdiv (4 * a)))
    have e24 : sF h' 56 (jL a) (jL b) (jL ((b * b - d).tdiv (4 * a))) = sFm h' 56 (a, b, (b * b - d).tdiv (4 * a)) := rfl
    rw [e24] at c24
    have q1 : Fr (fun a => a = 56) noT h' (sFm h' 56 (a, b, (b * b - d).tdiv (4 * a))) := (Fr.refl (fun a => a = 56) noT h').sFm rfl _
    have g1 := isFm_sFm h' (L0.K 56 rfl) (a, b, (b * b - d).tdiv (4 * a))
    have hr1 := hr'.F q1 (by omega)
    have L1 := L0.F q1 (fun _ z => z.elim)
    generalize sFm h' 56 (a, b, (b * b - d).tdiv (4 * a)) = h1' at c24 q1 g1 hr1 L1
    rw [← jL_div (by omega) (by omega) (by omega) (by omega), ← jL_sub, ← jL_mul, ← jL_mul 4 a, ← hr'.2.1] at c24
    refine hR 60 105 _ _ _ _ _ _ rfl ?_
    refine ⟨L0.K 53 rfl, _, L0.R 53 3 _ rfl, L0.K 53 rfl, _, L0.R 53 0 _ rfl, L0.K 7 rfl, ?_, L0.K 56 rfl, jcallV c24 ?_⟩
    · simp (disch := omega) only [mj_lcm, jI_lt, jI_le, jI_eq, jL_lt, jL_le, jL_eq, jI_lt0, jI_0le, jI_0lt, jI_le0, jI_eq0, jL_eq0, jI_L, jI_add, jI_sub, jI_mul, jI_neg, jL_add, jL_sub, jL_mul, jL_neg, jL_I, jI_div, jI_mod, jL_div, jL_mod]
      omega
    · have hring' : ∃ N, 0 < d → isRing d w (itF d w m (a, b, (b * b - d).tdiv (4 * a))) N := by
        rcases Int.lt_or_gt_of_ne hd0 with z | z
        · exact ⟨0, fun y => by omega⟩
        · obtain ⟨N, hN⟩ := hring z k k1
          exact ⟨N, fun _ => by rw [k2]; exact hN⟩
      obtain ⟨N, hN⟩ := hring'
      refine ⟨L1.K 53 rfl, _, L1.R 53 3 _ rfl, L1.K 53 rfl, jcallP (ct_82 G L1 hr1 g1 (by decide) (by omega) hd0 hw m2 m1 (by rw [k2]; exact hokk) hN) ?_⟩
      rintro o h3 ⟨⟨v, rfl⟩, ⟨j, j1, j2⟩, q3⟩
      obtain ⟨k', k3, k4, k5⟩ := hfin j j2
      rw [k4] at j1
      have L3 := L1.F q3 (fun _ z => z.elim)
      refine ⟨L3.K 53 rfl, _, L3.R 53 3 _ rfl, L3.K 60 rfl, jcallV (ct_25 G (f := 60) (g := 56) (L3.K 60 rfl) (L3.K 56 rfl)) ?_⟩
      have e1 : sF h3 60 (hJ h3 56 0) (hJ h3 56 1) (hJ h3 56 2) = sFm h3 60 (fmP d (A k')) := by
        rw [j1.2.1, j1.2.2.1, j1.2.2.2]
        rfl
      rw [e1]
      refine ⟨rfl, ⟨(a, B, C), k', hc, k3, k5, isFm_sFm h3 (L3.K 60 rfl) _⟩, ?_⟩
      exact ((FR.trans (q1.mono (by intro a z; omega) (fun _ z => z))).trans (q3.mono (by intro a z; omega) (fun _ z => z))).sFm (by omega) _
  -- the middle number is moved near 0
  have r186 : ∀ (a B C : Int) (h' : mj_H) (aL zL bL : Int64) (x1 x2 x3 x4 x5 x6 x7 x8 x18 : Option Value), Cmp f g (a, B, C) → (-1048576 ≤ a ∧ a ≤ 1048576) → isRr h' 7 d w → Fr inCp noT h h' → aL = jL a → zL = jL (2 * a.natAbs) → bL = jL (B % (2 * a.natAbs)) → Run 186 (l80 x1 x2 x3 x4 x5 x6 x7 x8 (some (.long aL)) none (some (.long zL)) none (some (.long bL)) none x18) [] h' (0, 0) := by
    rintro a B C h' aL zL bL x1 x2 x3 x4 x5 x6 x7 x8 x18 hc ba hr' FR rfl rfl rfl
    have ha0 : a ≠ 0 := vld_1 hnsq (cmp_vld hnsq hf hg hc)
    have m0 : 0 ≤ B % (2 * (a.natAbs : Int)) := Int.emod_nonneg _ (by omega)
    have m1 : B % (2 * (a.natAbs : Int)) < 2 * a.natAbs := Int.emod_lt_of_pos _ (by omega)
    have hem := Int.emod_add_mul_ediv B (2 * (a.natAbs : Int))
    have hex : ∃ e, B % (2 * (a.natAbs : Int)) = B + 2 * a * e := by
      rcases Int.natAbs_eq a with z | z
      · refine ⟨-(B / (2 * (a.natAbs : Int))), ?_⟩
        have : 2 * a * -(B / (2 * (a.natAbs : Int))) = -(2 * (a.natAbs : Int) * (B / (2 * (a.natAbs : Int)))) := by
          generalize B / (2 * (a.natAbs : Int)) = q
          have e : (a.natAbs : Int) = a := by omega
          rw [e]
          grind
        omega
      · refine ⟨B / (2 * (a.natAbs : Int)), ?_⟩
        have : 2 * a * (B / (2 * (a.natAbs : Int))) = -(2 * (a.natAbs : Int) * (B / (2 * (a.natAbs : Int)))) := by
          generalize B / (2 * (a.natAbs : Int)) = q
          have e : (a.natAbs : Int) = -a := by omega
          rw [e]
          grind
        omega
    obtain ⟨e, he⟩ := hex
    generalize B % (2 * (a.natAbs : Int)) = b1 at m0 m1 he
    refine hR 60 95 _ _ _ _ _ _ rfl ?_
    refine ⟨fun c1 => ?_, fun c1 => ?_⟩
    · simp (disch := omega) only [mj_lcm, jI_lt, jI_le, jI_eq, jL_lt, jL_le, jL_eq, jI_lt0, jI_0le, jI_0lt, jI_le0, jI_eq0, jL_eq0, jI_L, jI_add, jI_sub, jI_mul, jI_neg, jL_add, jL_sub, jL_mul, jL_neg, jL_I, jI_div, jI_mod, jL_div, jL_mod] at c1
      exact r205 a b1 B C h' _ _ _ _ _ _ _ _ _ _ _ _ _ hc ⟨e, he⟩ ba (by omega) (by omega) hr' FR rfl rfl
    · simp (disch := omega) only [mj_lcm, jI_lt, jI_le, jI_eq, jL_lt, jL_le, jL_eq, jI_lt0, jI_0le, jI_0lt, jI_le0, jI_eq0, jL_eq0, jI_L, jI_add, jI_sub, jI_mul, jI_neg, jL_add, jL_sub, jL_mul, jL_neg, jL_I, jI_div, jI_mod, jL_div, jL_mod] at c1
      refine r205 a (b1 - 2 * a.natAbs) B C h' _ _ _ _ _ _ _ _ _ _ _ _ _ hc ?_ ba (by omega) (by omega) hr' FR rfl (jL_sub _ _)
      rcases Int.natAbs_eq a with z | z
      · refine ⟨e - 1, ?_⟩
        rw [he, Int.mul_sub]
        omega
      · refine ⟨e + 1, ?_⟩
        rw [he, Int.mul_add]
        omega
  have r177 : ∀ (a B C : Int) (h' : mj_H) (aL zL bL : Int64) (x1 x2 x3 x4 x5 x6 x7 x8 x18 : Option Value), Cmp f g (a, B, C) → (-1048576 ≤ a ∧ a ≤ 1048576) → (-4611686018427387904 < B ∧ B < 4611686018427387904) → isRr h' 7 d w → Fr inCp noT h h' → aL = jL a → zL = jL (2 * a.natAbs) → bL = jL B → Run 177 (l80 x1 x2 x3 x4 x5 x6 x7 x8 (some (.long aL)) none (some (.long zL)) none (some (.long bL)) none x18) [] h' (0, 0) := by
    rintro a B C h' aL zL bL x1 x2 x3 x4 x5 x6 x7 x8 x18 hc ba bB hr' FR rfl rfl rfl
    have ha0 : a ≠ 0 := vld_1 hnsq (cmp_vld hnsq hf hg hc)
    refine hR 60 91 _ _ _ _ _ _ rfl ?_
    refine jcall (ct_29 G (by omega) (by omega) (by omega) (by omega) h') ?_
    exact r186 a B C h' _ _ _ _ _ _ _ _ _ _ _ _ hc ba hr' FR rfl rfl rfl
  have mb : ∀ {x y : Int} {X Y : Nat}, x.natAbs ≤ X → y.natAbs ≤ Y → (x * y).natAbs ≤ X * Y := by
    intro x y X Y hx' hy'
    rw [Int.natAbs_mul]
    exact Nat.mul_le_mul hx' hy'
  -- with the numbers that the common divisors gave
  have rest : ∀ (u1 v1 u2 v2 N : Int) (h' : mj_H), isCm h' 54 (Int.gcd f.1 g.1) u1 v1 → isCm h' 55 N u2 v2 → N = Int.gcd (Int.gcd f.1 g.1) s → u1 * f.1 + v1 * g.1 = Int.gcd f.1 g.1 → u2 * (Int.gcd f.1 g.1) + v2 * s = N → u1.natAbs ≤ 1024 → v1.natAbs ≤ 1024 → u2.natAbs ≤ 1024 → v2.natAbs ≤ 1024 → isRr h' 7 d w → isFm h' 58 f → isFm h' 59 g → Fr inCp noT h h' → ∀ (nL : Int64) (x8 x9 x10 x11 x12 x13 x14 x15 x16 x17 x18 : Option Value), nL = jL N → Run 55 (l80 (some (.long (jL s))) (some (.long nL)) none none x8 x9 x10 x11 x12 x13 x14 x15 x16 x17 x18) [] h' (0, 0) := by
    rintro u1 v1 u2 v2 N h' c54 c55 hN hb1 hb2 hu1 hv1 hu2 hv2 hr' hf' hg' FR nL x8 x9 x10 x11 x12 x13 x14 x15 x16 x17 x18 rfl
    have L0 := L.F FR (fun _ z => z.elim)
    have hg0 : (Int.gcd f.1 g.1 : Int) ≠ 0 := by
      intro z
      have : Int.gcd f.1 g.1 = 0 := by omega
      exact ha1 (Int.gcd_eq_zero_iff.1 this).1
    have hN0 : 0 < N := by
      rw [hN]
      have : Int.gcd (Int.gcd f.1 g.1 : Int) s ≠ 0 := fun z => hg0 (Int.gcd_eq_zero_iff.1 z).1
      omega
    have dN : N ∣ (Int.gcd f.1 g.1 : Int) := by
      rw [hN]
      exact Int.gcd_dvd_left ..
    have dS : N ∣ s := by
      rw [hN]
      exact Int.gcd_dvd_right ..
    have d1 : N ∣ f.1 := Int.dvd_trans dN (Int.gcd_dvd_left ..)
    have d2 : N ∣ g.1 := Int.dvd_trans dN (Int.gcd_dvd_right ..)
    obtain ⟨B, C, eB, ePar, hc⟩ := compose_pure hnsq hf hg (u1 := u1) (v1 := v1) (u2 := u2) (v2 := v2) (n := N) (s := s) hs hb1 hb2 d1 d2 dS (by omega)
    have hNle : N ≤ 1024 := by
      have h3 := Int.le_of_dvd (show 0 < (f.1.natAbs : Int) by omega) (Int.dvd_natAbs.2 d1)
      omega
    have t1 : f.1.tdiv N = f.1 / N := by
      obtain ⟨q, hq⟩ := d1
      rw [hq, Int.mul_tdiv_cancel_left _ (by omega), Int.mul_ediv_cancel_left _ (by omega)]
    have t2 : g.1.tdiv N = g.1 / N := by
      obtain ⟨q, hq⟩ := d2
      rw [hq, Int.mul_tdiv_cancel_left _ (by omega), Int.mul_ediv_cancel_left _ (by omega)]
    have b1 : (f.1 / N).natAbs ≤ 1024 := by
      rw [← t1]
      have := Int.natAbs_tdiv_le_natAbs f.1 N
      omega
    have b2 : (g.1 / N).natAbs ≤ 1024 := by
      rw [← t2]
      have := Int.natAbs_tdiv_le_natAbs g.1 N
      omega
    have bA := mb b1 b2
    have eq2 : (f.2.1 * g.2.1 + d).tdiv 2 = (f.2.1 * g.2.1 + d) / 2 := by
      obtain ⟨q, hq⟩ : ∃ q, f.2.1 * g.2.1 + d = 2 * q := ⟨(f.2.1 * g.2.1 + d) / 2, by omega⟩
      rw [hq, Int.mul_tdiv_cancel_left _ (by decide), Int.mul_ediv_cancel_left _ (by decide)]
    have bfg := mb (x := f.2.1) (y := g.2.1) (X := 1024) (Y := 1024) (by omega) (by omega)
    have k1 := mb (mb (mb hu2 hu1) (show f.1.natAbs ≤ 1024 by omega)) (show g.2.1.natAbs ≤ 1024 by omega)
    have k2 := mb (mb (mb hu2 hv1) (show g.1.natAbs ≤ 1024 by omega)) (show f.2.1.natAbs ≤ 1024 by omega)
    have k3 := mb (y := (f.2.1 * g.2.1 + d) / 2) (Y := 1048576) hv2 (by omega)
    have bS : (N * B).natAbs ≤ 4398046511104 := by
      rw [eB]
      omega
    have bB : B.natAbs ≤ 4398046511104 := by
      rw [Int.natAbs_mul] at bS
      have : 1 * B.natAbs ≤ N.natAbs * B.natAbs := Nat.mul_le_mul_right _ (by omega)
      omega
    have r117 : ∀ (aL zL uL vL : Int64) (x16 x17 x18 : Option Value), uL = jL (u2 * u1) → vL = jL (u2 * v1) → aL = jL (f.1 / N * (g.1 / N)) → zL = jL (2 * (f.1 / N * (g.1 / N)).natAbs) → Run 117 (l80 (some (.long (jL s))) (some (.long (jL N))) none none (some (.long uL)) none (some (.long vL)) none (some (.long aL)) none (some (.long zL)) none x16 x17 x18) [] h' (0, 0) := by
      rintro aL zL uL vL x16 x17 x18 rfl rfl rfl rfl
      refine hR 60 57 _ _ _ _ _ _ rfl ?_
      refine ⟨hf'.1, hg'.1, hg'.1, hf'.1, L0.K 53 rfl, _, L0.R 53 2 _ rfl, c55.1, hf'.1, hg'.1, L0.K 53 rfl, _, L0.R 53 0 _ rfl, L0.K 7 rfl, by decide, ?_, ?_⟩
      · simp (disch := omega) only [mj_lcm, jI_lt, jI_le, jI_eq, jL_lt, jL_le, jL_eq, jI_lt0, jI_0le, jI_0lt, jI_le0, jI_eq0, jL_eq0, jI_L, jI_add, jI_sub, jI_mul, jI_neg, jL_add, jL_sub, jL_mul, jL_neg, jL_I, jI_div, jI_mod, jL_div, jL_mod]
        omega
      · refine r177 _ B C h' _ _ _ _ _ _ _ _ _ _ _ _ hc (by omega) (by omega) hr' FR rfl rfl ?_
        rw [hf'.2.1, hg'.2.2.1, hg'.2.1, hf'.2.2.1, c55.2.2.2, hr'.2.1, jL_mul, jL_mul, jL_mul, jL_mul, jL_mul, jL_add, jL_add, jL_div (by omega) (by omega) (by decide) (by decide), eq2, jL_mul, jL_add, ← eB, jL_div (by omega) (by omega) (by omega) (by omega), Int.mul_tdiv_cancel_left _ (by omega)]
    have r106 : ∀ (aL uL vL : Int64) (x14 x15 x16 x17 x18 : Option Value), uL = jL (u2 * u1) → vL = jL (u2 * v1) → aL = jL (f.1 / N * (g.1 / N)) → Run 106 (l80 (some (.long (jL s))) (some (.long (jL N))) none none (some (.long uL)) none (some (.long vL)) none (some (.long aL)) none x14 x15 x16 x17 x18) [] h' (0, 0) := by
      rintro aL uL vL x14 x15 x16 x17 x18 e1 e2 rfl
      refine hR 60 52 _ _ _ _ _ _ rfl ?_
      refine jcall (ct_28 G (by omega) (by omega) h') ?_
      exact r117 _ _ _ _ _ _ _ e1 e2 rfl (by rw [jL_mul])
    have r89 : ∀ (uL vL : Int64) (x12 x13 x14 x15 x16 x17 x18 : Option Value), uL = jL (u2 * u1) → vL = jL (u2 * v1) → Run 89 (l80 (some (.long (jL s))) (some (.long (jL N))) none none (some (.long uL)) none (some (.long vL)) none x12 x13 x14 x15 x16 x17 x18) [] h' (0, 0) := by
      rintro uL vL x12 x13 x14 x15 x16 x17 x18 e1 e2
      refine hR 60 42 _ _ _ _ _ _ rfl ?_
      refine ⟨hf'.1, ?_, hg'.1, ?_, ?_⟩
      · simp (disch := omega) only [mj_lcm, jI_lt, jI_le, jI_eq, jL_lt, jL_le, jL_eq, jI_lt0, jI_0le, jI_0lt, jI_le0, jI_eq0, jL_eq0, jI_L, jI_add, jI_sub, jI_mul, jI_neg, jL_add, jL_sub, jL_mul, jL_neg, jL_I, jI_div, jI_mod, jL_div, jL_mod]
        omega
      · simp (disch := omega) only [mj_lcm, jI_lt, jI_le, jI_eq, jL_lt, jL_le, jL_eq, jI_lt0, jI_0le, jI_0lt, jI_le0, jI_eq0, jL_eq0, jI_L, jI_add, jI_sub, jI_mul, jI_neg, jL_add, jL_sub, jL_mul, jL_neg, jL_I, jI_div, jI_mod, jL_div, jL_mod]
        omega
      · refine r106 _ _ _ _ _ _ _ _ e1 e2 ?_
        rw [hf'.2.1, hg'.2.1, jL_div (by omega) (by omega) (by omega) (by omega), jL_div (by omega) (by omega) (by omega) (by omega), jL_mul, t1, t2]
    have r72 : ∀ (uL : Int64) (x10 x11 x12 x13 x14 x15 x16 x17 x18 : Option Value), uL = jL (u2 * u1) → Run 72 (l80 (some (.long (jL s))) (some (.long (jL N))) none none (some (.long uL)) none x10 x11 x12 x13 x14 x15 x16 x17 x18) [] h' (0, 0) := by
      rintro uL x10 x11 x12 x13 x14 x15 x16 x17 x18 e1
      refine hR 60 34 _ _ _ _ _ _ rfl ?_
      refine ⟨L0.K 53 rfl, _, L0.R 53 2 _ rfl, c55.1, L0.K 53 rfl, _, L0.R 53 1 _ rfl, c54.1, ?_⟩
      refine r89 _ _ _ _ _ _ _ _ _ e1 ?_
      rw [c55.2.2.1, c54.2.2.2, jL_mul]
    refine hR 60 26 _ _ _ _ _ _ rfl ?_
    refine ⟨L0.K 53 rfl, _, L0.R 53 2 _ rfl, c55.1, L0.K 53 rfl, _, L0.R 53 1 _ rfl, c54.1, ?_⟩
    refine r72 _ _ _ _ _ _ _ _ _ _ ?_
    rw [c55.2.2.1, c54.2.2.1, jL_mul]
  have r15 : ∀ (sL : Int64) (x6 x7 x8 x9 x10 x11 x12 x13 x14 x15 x16 x17 x18 : Option Value), sL = jL s → Run 15 [some (.ref 53), some (.ref 60), some (.ref 58), some (.ref 59), some (.long sL), none, x6, x7, x8, x9, x10, x11, x12, x13, x14, x15, x16, x17, x18] [] h (0, 0) := by
    rintro sL x6 x7 x8 x9 x10 x11 x12 x13 x14 x15 x16 x17 x18 rfl
    have c81 := ct_81 G (h := h) (c := 54) (L.K 54 rfl) (x := f.1) (y := g.1) (by omega) (by omega)
    rw [← h1.2.1, ← h2.2.1] at c81
    refine hR 60 8 _ _ _ _ _ _ rfl ?_
    refine ⟨L.K 53 rfl, _, L.R 53 1 _ rfl, h1.1, h2.1, L.K 54 rfl, jcallP c81 ?_⟩
    rintro o g1 ⟨rfl, u1, v1, c54, b1, b2, b3, q1⟩
    have L1 := L.F q1 (fun _ z => z.elim)
    have hgle : (Int.gcd f.1 g.1 : Int) ≤ 1024 := by
      have := Int.gcd_le_natAbs_left (a := f.1) g.1 ha1
      omega
    have c81b := ct_81 G (h := g1) (c := 55) (L1.K 55 rfl) (x := Int.gcd f.1 g.1) (y := s) (by omega) (by omega)
    rw [← c54.2.1] at c81b
    refine ⟨L1.K 53 rfl, _, L1.R 53 2 _ rfl, L1.K 53 rfl, _, L1.R 53 1 _ rfl, L1.K 54 rfl, L1.K 55 rfl, jcallP c81b ?_⟩
    rintro o g2 ⟨rfl, u2, v2, c55, b4, b5, b6, q2⟩
    have L2 := L1.F q2 (fun _ z => z.elim)
    have FR : Fr inCp noT h g2 := (q1.mono (by intro a z; omega) (fun _ z => z)).trans (q2.mono (by intro a z; omega) (fun _ z => z))
    refine ⟨L2.K 53 rfl, _, L2.R 53 2 _ rfl, L2.K 55 rfl, ?_⟩
    have h5 : ((Int.gcd f.1 g.1 : Int)).natAbs = Int.gcd f.1 g.1 := rfl
    exact rest u1 v1 u2 v2 _ g2 (c54.F q2 (by omega)) c55 rfl b1 b4 (max_bd b2 hgn) (max_bd b3 hfn) (max_bd b5 (s_bd hsb)) (max_bd b6 (gcd_bd hgle)) (hr.F FR (by omega)) (h1.F FR (by omega)) (h2.F FR (by omega)) FR _ _ _ _ _ _ _ _ _ _ _ _ c55.2.1
  refine hR 60 0 _ _ _ _ _ _ rfl ?_
  refine ⟨h1.1, h2.1, by decide, ?_⟩
  refine r15 _ _ _ _ _ _ _ _ _ _ _ _ _ _ ?_
  rw [h1.2.2.1, h2.2.2.1, jL_add, hs, jL_div (by omega) (by omega) (by decide) (by decide), Int.mul_tdiv_cancel_left _ (by decide)]
