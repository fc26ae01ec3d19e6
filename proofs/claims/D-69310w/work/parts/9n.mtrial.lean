/-! the model: one trial above 0, and all of them -/
theorem abkB_end {M : Nat} {an : Nat → Int} : ∀ (k : Nat) (z : zI), abkB M an k z → bZ M (abk an k z)
  | 0, _, h => h
  | k + 1, z, h => abkB_end k (bkZ (an k) z) h.2
theorem trn_bZ {M : Nat} {z : zI} (h : bZ M z) : bZ M (trn z) := by
  obtain ⟨⟨a1, a2⟩, a3, a4⟩ := h
  unfold trn
  split
  · exact ⟨⟨a1, a2⟩, a3, a4⟩
  · refine ⟨⟨?_, ?_⟩, ?_, ?_⟩
    · show -(pB M) < -z.1
      omega
    · show -z.1 < pB M
      omega
    · show -(pB M) < -z.2
      omega
    · show -z.2 < pB M
      omega
theorem cmZ_b {M : Nat} {tn an : Nat → Int} {r p a : Nat} {z : zI} {j : Int} (h : cmB M tn an r p a z j) : bZ M (cmZ tn an r p a z j) := trn_bZ (abkB_end _ _ h.2.2)
abbrev iTr (k : Nat) : Prop := k = 40 ∨ k = 48
abbrev sTr (c : Nat) : Prop := (1433 ≤ c ∧ c ≤ 1436) ∨ c = 1440
/-- what a family tells, from a place of the ring on -/
def fmOK (M : Nat) (tn an : Nat → Int) (r p a : Nat) (z : zI) (u v : Nat) : Prop := (u ≤ 900 ∧ v ≤ 900) ∧ skP (cmZ tn an r p a z) (j0R r p) u v ∧ ∀ j : Int, j0R r p - v - 1 ≤ j → j ≤ j0R r p + u + 1 → cmB M tn an r p a z j
/-- what one trial adds -/
def trRes (d w : Int) (M : Nat) (tn an : Nat → Int) (r a : Nat) (RA : Nat → pI) (g m b : Int) (n : Nat) (R : List Fam) : Prop :=
  (¬ Int.gcd (Int.gcd m b) (frmO d m b).2.2 = 1 → R = []) ∧ (Int.gcd (Int.gcd m b) (frmO d m b).2.2 = 1 → (∀ i, i < r → RA i ≠ ((itF d w n (frmO d m b)).1, (itF d w n (frmO d m b)).2.1)) → R = []) ∧
  (Int.gcd (Int.gcd m b) (frmO d m b).2.2 = 1 → ∀ p, p < r → RA p = ((itF d w n (frmO d m b)).1, (itF d w n (frmO d m b)).2.1) → (∀ i, i < p → RA i ≠ ((itF d w n (frmO d m b)).1, (itF d w n (frmO d m b)).2.1)) →
    ∃ u v, fmOK M tn an r p a ((rcT d w g m b n).2.2.2.2.1, (rcT d w g m b n).2.2.2.2.2) u v ∧ R = [(g, b, g * (cmZ tn an r p a ((rcT d w g m b n).2.2.2.2.1, (rcT d w g m b n).2.2.2.2.2) (j0R r p + u - v)).1, g * (cmZ tn an r p a ((rcT d w g m b n).2.2.2.2.1, (rcT d w g m b n).2.2.2.2.2) (j0R r p + u - v)).2)])
abbrev l243 (g m b x y : Int64) (x11 x12 : Option Value) : mj_Ls := [some (.ref 1412), some (.long g), none, some (.long m), none, some (.long b), none, some (.long x), none, some (.long y), none, x11, x12]
/-- FormHouseModel.trial(JJJ)V; cuts at [31, 37, 61, 68, 72, 84, 89, 96, 102, 108, 118, 124, 130, 134, 140, 146] -/
def cl_243_3 : List mj_E := (131, false, .invokevirtual 329, 3, 248, 0, 17, 0, 0) ::
  (134, true, .aload_n 0, 1, 0, 0, 0, 0, 0) ::
  (135, false, .iconst 2, 1, 0, 0, 0, jI 2, 0) ::
  (136, false, .lload_n 1, 1, 0, 0, 0, 0, 0) ::
  (137, false, .invokevirtual 382, 3, 256, 2, 17, 0, 0) ::
  (140, true, .aload_n 0, 1, 0, 0, 0, 0, 0) ::
  (141, false, .iconst 3, 1, 0, 0, 0, jI 3, 0) ::
  (142, false, .lload_n 1, 1, 0, 0, 0, 0, 0) ::
  (143, false, .invokevirtual 382, 3, 256, 2, 17, 0, 0) ::
  (146, true, .aload_n 0, 1, 0, 0, 0, 0, 0) ::
  (147, false, .lload_n 1, 1, 0, 0, 0, 0, 0) ::
  (148, false, .l2i, 1, 0, 0, 0, 0, 0) ::
  (149, false, .lload 5, 2, 0, 0, 0, 0, 0) ::
  (151, false, .l2i, 1, 0, 0, 0, 0, 0) ::
  (152, false, .invokevirtual 385, 3, 235, 2, 17, 0, 0) ::
  (155, false, .return_, 1, 0, 0, 0, 0, 0) ::
  []
def cl_243_2 : List mj_E := (87, false, .lstore 9, 2, 0, 0, 0, 0, 0) ::
  (89, true, .lload 11, 2, 0, 0, 0, 0, 0) ::
  (91, false, .lstore 7, 2, 0, 0, 0, 0, 0) ::
  (93, false, .goto (-32), 3, 34, 0, 0, 0, 0) ::
  (96, true, .aload_n 0, 1, 0, 0, 0, 0, 0) ::
  (97, false, .invokevirtual 375, 3, 244, 0, 17, 0, 0) ::
  (100, false, .istore 11, 2, 0, 0, 0, 0, 0) ::
  (102, true, .iload 11, 2, 0, 0, 0, 0, 0) ::
  (104, false, .ifCond .ge 4, 3, 58, 0, 0, 0, 0) ::
  (107, false, .return_, 1, 0, 0, 0, 0, 0) ::
  (108, true, .aload_n 0, 1, 0, 0, 0, 0, 0) ::
  (109, false, .lload 7, 2, 0, 0, 0, 0, 0) ::
  (111, false, .lload 9, 2, 0, 0, 0, 0, 0) ::
  (113, false, .iload 11, 2, 0, 0, 0, 0, 0) ::
  (115, false, .invokevirtual 378, 3, 245, 3, 17, 0, 0) ::
  (118, true, .aload_n 0, 1, 0, 0, 0, 0, 0) ::
  (119, false, .iconst 0, 1, 0, 0, 0, jI 0, 0) ::
  (120, false, .iconst 2, 1, 0, 0, 0, jI 2, 0) ::
  (121, false, .invokevirtual 336, 3, 240, 2, 17, 0, 0) ::
  (124, true, .aload_n 0, 1, 0, 0, 0, 0, 0) ::
  (125, false, .iconst 1, 1, 0, 0, 0, jI 1, 0) ::
  (126, false, .iconst 3, 1, 0, 0, 0, jI 3, 0) ::
  (127, false, .invokevirtual 336, 3, 240, 2, 17, 0, 0) ::
  (130, true, .aload_n 0, 1, 0, 0, 0, 0, 0) ::
  cl_243_3
def cl_243_1 : List mj_E := (41, false, .aload_n 0, 1, 0, 0, 0, 0, 0) ::
  (42, false, .getfield 135, 3, 17, 51, 1, 0, 0) ::
  (45, false, .invokestatic 166, 3, 197, 2, 0, 0, 0) ::
  (48, false, .aload_n 0, 1, 0, 0, 0, 0, 0) ::
  (49, false, .getfield 140, 3, 17, 52, 1, 0, 0) ::
  (52, false, .invokestatic 166, 3, 197, 2, 0, 0, 0) ::
  (55, false, .lconst 1, 1, 0, 0, 0, 0, jL 1) ::
  (56, false, .lcmp, 1, 0, 0, 0, 0, 0) ::
  (57, false, .ifCond .eq 4, 3, 34, 0, 0, 0, 0) ::
  (60, false, .return_, 1, 0, 0, 0, 0, 0) ::
  (61, true, .aload_n 0, 1, 0, 0, 0, 0, 0) ::
  (62, false, .invokevirtual 162, 3, 195, 0, 17, 0, 0) ::
  (65, false, .ifCond .ne 31, 3, 52, 0, 0, 0, 0) ::
  (68, true, .aload_n 0, 1, 0, 0, 0, 0, 0) ::
  (69, false, .invokevirtual 172, 3, 199, 0, 17, 0, 0) ::
  (72, true, .aload_n 0, 1, 0, 0, 0, 0, 0) ::
  (73, false, .getfield 147, 3, 17, 53, 1, 0, 0) ::
  (76, false, .lload 7, 2, 0, 0, 0, 0, 0) ::
  (78, false, .lmul, 1, 0, 0, 0, 0, 0) ::
  (79, false, .lload 9, 2, 0, 0, 0, 0, 0) ::
  (81, false, .ladd, 1, 0, 0, 0, 0, 0) ::
  (82, false, .lstore 11, 2, 0, 0, 0, 0, 0) ::
  (84, true, .lload 7, 2, 0, 0, 0, 0, 0) ::
  (86, false, .lneg, 1, 0, 0, 0, 0, 0) ::
  cl_243_2
def cl_243_0 : List mj_E := (0, false, .aload_n 0, 1, 0, 0, 0, 0, 0) ::
  (1, false, .lload_n 3, 1, 0, 0, 0, 0, 0) ::
  (2, false, .putfield 132, 3, 17, 50, 1, 0, 0) ::
  (5, false, .aload_n 0, 1, 0, 0, 0, 0, 0) ::
  (6, false, .lload 5, 2, 0, 0, 0, 0, 0) ::
  (8, false, .putfield 135, 3, 17, 51, 1, 0, 0) ::
  (11, false, .aload_n 0, 1, 0, 0, 0, 0, 0) ::
  (12, false, .lload 5, 2, 0, 0, 0, 0, 0) ::
  (14, false, .lload 5, 2, 0, 0, 0, 0, 0) ::
  (16, false, .lmul, 1, 0, 0, 0, 0, 0) ::
  (17, false, .aload_n 0, 1, 0, 0, 0, 0, 0) ::
  (18, false, .getfield 9, 3, 17, 1, 1, 0, 0) ::
  (21, false, .lsub, 1, 0, 0, 0, 0, 0) ::
  (22, false, .ldc2_w 138, 3, 0, 0, 0, 0, jL 4) ::
  (25, false, .lload_n 3, 1, 0, 0, 0, 0, 0) ::
  (26, false, .lmul, 1, 0, 0, 0, 0, 0) ::
  (27, false, .ldiv, 1, 0, 0, 0, 0, 0) ::
  (28, false, .putfield 140, 3, 17, 52, 1, 0, 0) ::
  (31, true, .lconst 1, 1, 0, 0, 0, 0, jL 1) ::
  (32, false, .lstore 7, 2, 0, 0, 0, 0, 0) ::
  (34, false, .lconst 0, 1, 0, 0, 0, 0, jL 0) ::
  (35, false, .lstore 9, 2, 0, 0, 0, 0, 0) ::
  (37, true, .aload_n 0, 1, 0, 0, 0, 0, 0) ::
  (38, false, .getfield 132, 3, 17, 50, 1, 0, 0) ::
  cl_243_1
def cd_243 : List mj_E := cl_243_0
def cx_243 : mj_X := (0, [], [])
theorem tb_243 : mj_tab (mj_mt 243) cx_243 cd_243 mj_mh [(0, 0, 0), (0, 0, 0), (7149, 0, 0), (0, 0, 0), (0, 0, 0), (7150, 0, 0), (0, 0, 0), (0, 0, 0), (0, 0, 0), (0, 0, 0), (0, 0, 0), (7100, 0, 0), (0, 0, 0), (6224, 0, 0), (0, 0, 0), (0, 0, 0), (0, 0, 0), (7151, 0, 0), (0, 0, 0), (0, 0, 0), (0, 0, 0), (0, 0, 0), (0, 0, 0), (7149, 0, 0), (0, 0, 0), (7150, 0, 0), (6236, 0, 0), (0, 0, 0), (7151, 0, 0), (6236, 0, 0), (0, 0, 0), (0, 0, 0), (0, 0, 0), (0, 0, 0), (0, 0, 0), (6229, 0, 0), (0, 0, 0), (0, 0, 0), (7003, 0, 0), (0, 0, 0), (7152, 0, 0), (0, 0, 0), (0, 0, 0), (0, 0, 0), (0, 0, 0), (0, 0, 0), (0, 0, 0), (0, 0, 0), (0, 0, 0), (0, 0, 0), (0, 0, 0), (0, 0, 0), (0, 0, 0), (8125, 0, 0), (0, 0, 0), (0, 0, 0), (0, 0, 0), (0, 0, 0), (0, 0, 0), (0, 0, 0), (0, 0, 0), (0, 0, 0), (8129, 0, 0), (0, 0, 0), (0, 0, 0), (0, 0, 0), (8108, 0, 0), (0, 0, 0), (0, 0, 0), (0, 0, 0), (8108, 0, 0), (0, 0, 0), (8141, 0, 0), (0, 0, 0), (0, 0, 0), (0, 0, 0), (8173, 0, 0), (0, 0, 0), (0, 0, 0), (0, 0, 0), (8173, 0, 0), (0, 0, 0), (0, 0, 0), (0, 0, 0), (0, 0, 0), (0, 0, 0), (8088, 0, 0), (0, 0, 0)] = true := mj_tab_f (by decide +kernel)
theorem ct_243 (G : mj_G) {h : mj_H} (L : isLam h) {d w : Int} (hw : isMw h d w) (hd : 0 < d ∧ d < 1099511627776) (hwb : -1 ≤ w ∧ w < 2147483648) {r a M : Nat} {tn an : Nat → Int} (hr : isMr h r a tn an) {RA : Nat → pI} (hq : isMq h r RA) (ho : isOK h) (hM : M ≤ 2170) {fs : List Fam} (hf : isNf h fs) (hfl : fs.length < 100000) {g m b : Int} (hg : 0 < g ∧ g ≤ 4294967296) (hm0 : m ≠ 0) (hm : -1073741824 < m ∧ m < 1073741824) (hb : 0 ≤ b ∧ b < 1073741824) {n : Nat} (ht : Int.gcd (Int.gcd m b) (frmO d m b).2.2 = 1 → trm d w n (frmO d m b)) (hz : (-9223372036854775808 < (rcT d w g m b n).2.2.2.2.1 ∧ (rcT d w g m b n).2.2.2.2.1 < 9223372036854775808) ∧ -9223372036854775808 < (rcT d w g m b n).2.2.2.2.2 ∧ (rcT d w g m b n).2.2.2.2.2 < 9223372036854775808) {R : List Fam} (hR0 : trRes d w M tn an r a RA g m b n R) : mj_Ct G (mj_mt 243) 0 0 [.ref 1412, .long (jL g), .long (jL m), .long (jL b)] h (fun o h' => o = .returned none ∧ isNf h' (fs ++ R) ∧ isOK h' ∧ FrM iTr jF sTr h h') := by
  have hbb : 0 ≤ b * b ∧ b * b ≤ 1152921504606846976 := ⟨sqn b, Int.le_trans (Int.mul_le_mul (c := 1073741824) (d := 1073741824) (by omega) (by omega) hb.1 (by decide)) (by decide)⟩
  have hc0 := Int.natAbs_tdiv_le_natAbs (b * b - d) (4 * m)
  obtain ⟨r1, r2, r3⟩ := hR0
  obtain ⟨f0, hf0⟩ : ∃ f0, f0 = frmO d m b := ⟨_, rfl⟩
  have hrc : (rcT d w g m b n).2.2.2.2.1 = (itK d w n f0 (0, 1)).2 ∧ (rcT d w g m b n).2.2.2.2.2 = -(itK d w n f0 (0, 1)).1 := by
    rw [hf0]
    exact ⟨rfl, rfl⟩
  rw [hrc.1, hrc.2] at hz r3
  rw [← hf0] at r1 r2 r3 ht
  have f01 : f0.1 = m ∧ f0.2.1 = b ∧ f0.2.2 = (b * b - d).tdiv (4 * m) := by
    rw [hf0]
    exact ⟨rfl, rfl, rfl⟩
  have hMr : ∀ {h' : mj_H}, FrM iTr jF sTr h h' → isMr h' r a tn an := fun F => hr.M F (by omega) (by omega)
  have hMw : ∀ {h' : mj_H}, FrM iTr jF sTr h h' → isMw h' d w := fun F => hw.M F (by omega) (by omega)
  have up : ∀ {h1 h2 : mj_H}, FrM noT jF noT h1 h2 → FrM iTr jF sTr h1 h2 := fun F => F.mono (fun _ z => z.elim) (fun _ z => z) (fun _ z => z.elim)
  have up4 : ∀ {h1 h2 : mj_H}, FrM i48 noT s40 h1 h2 → FrM iTr jF sTr h1 h2 := fun F => F.mono (fun _ z => Or.inr z) (fun _ z => z.elim) (fun _ z => Or.inr z)
  have hNf : ∀ {h1 h2 : mj_H}, FrM i48 noT s40 h1 h2 → isNf h1 fs → isNf h2 fs := fun F q => q.M F (by omega) (fun x hx => by omega)
  have hOK : ∀ {h1 h2 : mj_H}, FrM noT jF noT h1 h2 → isOK h1 → isOK h2 := fun F q c hc => by
    obtain ⟨e, e1, e2, e3⟩ := q c hc
    exact ⟨e, e1, e2, (F.I (by decide) (fun z => z) _).trans e3⟩
  refine mj_Ct_of mj_ok tb_243 rfl rfl (Nat.le_of_ble_eq_true rfl) (fun Run hR => ?_)
  -- the family is kept
  have fam : ∀ (p u v : Nat), p < r → fmOK M tn an r p a ((itK d w n f0 (0, 1)).2, -(itK d w n f0 (0, 1)).1) u v → R = [(g, b, g * (cmZ tn an r p a ((itK d w n f0 (0, 1)).2, -(itK d w n f0 (0, 1)).1) (j0R r p + u - v)).1, g * (cmZ tn an r p a ((itK d w n f0 (0, 1)).2, -(itK d w n f0 (0, 1)).1) (j0R r p + u - v)).2)] → ∀ (h' : mj_H) (xL yL : Int64) (x12 : Option Value), FrM iTr jF sTr h h' → isOK h' → isNf h' fs → xL = jL (itK d w n f0 (0, 1)).2 → yL = jL (-(itK d w n f0 (0, 1)).1) → Run 108 (l243 (jL g) (jL m) (jL b) xL yL (some (.int (jI p))) x12) [] h' (0, 0) := by
    rintro p u v hp ⟨huv, hsk, hcb⟩ hRe h' xL yL x12 F ho' hf' rfl rfl
    have L' := F.lay L
    obtain ⟨z, hze⟩ : ∃ z : zI, z = ((itK d w n f0 (0, 1)).2, -(itK d w n f0 (0, 1)).1) := ⟨_, rfl⟩
    have z1 : (itK d w n f0 (0, 1)).2 = z.1 := by rw [hze]
    have z2 : -(itK d w n f0 (0, 1)).1 = z.2 := by rw [hze]
    rw [← hze] at hsk hcb hRe
    rw [z1, z2] at hz ⊢
    have bX := cmZ_b (hcb (j0R r p + u - v) (by omega) (by omega))
    obtain ⟨X, hX⟩ : ∃ X : zI, X = cmZ tn an r p a z (j0R r p + u - v) := ⟨_, rfl⟩
    rw [← hX] at hRe bX
    have c245 := ct_245 G L' (hMr F) hp ho' (by omega) hz huv hsk hcb
    rw [← hX] at c245
    have r146 : ∀ (h3 : mj_H) (m2 : Nat) (w0 : zI) (x11 : Option Value), isZ h3 m2 w0 (g * X.1) (g * X.2) → stR m2 (g * X.1) → stR m2 (g * X.2) → isNf h3 fs → FrM iTr jF sTr h h3 → Run 146 (l243 (jL g) (jL m) (jL b) (jL z.1) (jL z.2) x11 x12) [] h3 (0, 0) := by
      intro h3 m2 w0 x11 s3 t1 t2 hf3 F3
      have L3 := F3.lay L
      have c235 := ct_235 G L3 s3 t1 t2 hf3 hfl (g := g) (b := b)
      rw [← jL_I, ← jL_I] at c235
      refine hR 60 81 _ _ _ _ _ _ rfl ?_
      refine ⟨L3.K 1412 rfl, jcallP c235 ?_⟩
      rintro o h4 ⟨rfl, f4, o4, F4⟩
      refine ⟨rfl, ?_, o4, F3.trans (F4.mono (fun _ q => Or.inl q) (fun _ q => q.elim) (fun _ q => q))⟩
      rw [hRe]
      exact f4
    have r140 : ∀ (h3 : mj_H) (m2 : Nat) (w0 : zI) (x11 : Option Value), isZ h3 m2 w0 (g * X.1) X.2 → stR m2 (g * X.1) → stR m2 (g * X.2) → isNf h3 fs → FrM iTr jF sTr h h3 → Run 140 (l243 (jL g) (jL m) (jL b) (jL z.1) (jL z.2) x11 x12) [] h3 (0, 0) := by
      intro h3 m2 w0 x11 s3 t1 t2 hf3 F3
      have L3 := F3.lay L
      refine hR 60 77 _ _ _ _ _ _ rfl ?_
      refine ⟨L3.K 1412 rfl, jcallP (ct_256 G L3 s3 (i := 3) (by omega) (g := g) (by omega) t2.rg) ?_⟩
      rintro o h4 ⟨rfl, s4, F4⟩
      exact r146 h4 m2 w0 _ (s4.z rfl rfl rfl rfl) t1 t2 (hNf F4 hf3) (F3.trans (up4 F4))
    have r134 : ∀ (h3 : mj_H) (m2 : Nat) (x11 : Option Value), isZ h3 m2 X X.1 X.2 → roomP m2 X.1 → roomP m2 X.2 → isNf h3 fs → FrM iTr jF sTr h h3 → Run 134 (l243 (jL g) (jL m) (jL b) (jL z.1) (jL z.2) x11 x12) [] h3 (0, 0) := by
      intro h3 m2 x11 s3 ro1 ro2 hf3 F3
      have L3 := F3.lay L
      have m8 := s3.1.2.1
      have r00 : roomP m2 0 := by
        have := pB_pos (m2 - 4)
        constructor <;> omega
      have t1 := room_mul m8 (k := g) (by omega) r00 ro1
      have t2 := room_mul m8 (k := g) (by omega) r00 ro2
      rw [Int.add_zero] at t1 t2
      refine hR 60 73 _ _ _ _ _ _ rfl ?_
      refine ⟨L3.K 1412 rfl, jcallP (ct_256 G L3 s3 (i := 2) (by omega) (g := g) (by omega) t1.rg) ?_⟩
      rintro o h4 ⟨rfl, s4, F4⟩
      exact r140 h4 m2 X _ (s4.z rfl rfl rfl rfl) t1 t2 (hNf F4 hf3) (F3.trans (up4 F4))
    have r130 : ∀ (h3 : mj_H) (m2 : Nat) (x11 : Option Value), isZ h3 m2 X X.1 X.2 → m2 ≤ M + 8 → isNf h3 fs → FrM iTr jF sTr h h3 → Run 130 (l243 (jL g) (jL m) (jL b) (jL z.1) (jL z.2) x11 x12) [] h3 (0, 0) := by
      intro h3 m2 x11 s3 hm2 hf3 F3
      have L3 := F3.lay L
      refine hR 60 71 _ _ _ _ _ _ rfl ?_
      refine ⟨L3.K 1412 rfl, jcallP (ct_248 G L3 s3 (by omega)) ?_⟩
      rintro o h4 ⟨rfl, ⟨m3, s4, ro1, ro2, -⟩, F4⟩
      exact r134 h4 m3 _ s4 ro1 ro2 (hNf F4 hf3) (F3.trans (up4 F4))
    have r124 : ∀ (h3 : mj_H) (m2 : Nat) (w0 : zI) (x11 : Option Value), isZ h3 m2 (X.1, w0.2) X.1 X.2 → stR m2 X.2 → m2 ≤ M + 8 → isNf h3 fs → FrM iTr jF sTr h h3 → Run 124 (l243 (jL g) (jL m) (jL b) (jL z.1) (jL z.2) x11 x12) [] h3 (0, 0) := by
      intro h3 m2 w0 x11 s3 t2 hm2 hf3 F3
      have L3 := F3.lay L
      refine hR 60 67 _ _ _ _ _ _ rfl ?_
      refine ⟨L3.K 1412 rfl, jcallP (ct_240' G L3.Md (t := 1) (f := 3) (by omega) (by omega) (by omega) s3.1 (v := X.2) (s3.2.2 3 (by omega)).1) ?_⟩
      rintro o h4 ⟨rfl, d4, F4⟩
      exact r130 h4 m2 _ ((s3.put F4 d4 t2.rg).z rfl rfl rfl rfl) hm2 (hNf F4.toM hf3) (F3.trans (up4 F4.toM))
    have r118 : ∀ (h3 : mj_H) (m2 : Nat) (w0 : zI) (x11 : Option Value), isZ h3 m2 w0 X.1 X.2 → stR m2 X.1 → stR m2 X.2 → m2 ≤ M + 8 → isNf h3 fs → FrM iTr jF sTr h h3 → Run 118 (l243 (jL g) (jL m) (jL b) (jL z.1) (jL z.2) x11 x12) [] h3 (0, 0) := by
      intro h3 m2 w0 x11 s3 t1 t2 hm2 hf3 F3
      have L3 := F3.lay L
      refine hR 60 63 _ _ _ _ _ _ rfl ?_
      refine ⟨L3.K 1412 rfl, jcallP (ct_240' G L3.Md (t := 0) (f := 2) (by omega) (by omega) (by omega) s3.1 (v := X.1) (s3.2.2 2 (by omega)).1) ?_⟩
      rintro o h4 ⟨rfl, d4, F4⟩
      exact r124 h4 m2 w0 _ ((s3.put F4 d4 t1.rg).z rfl rfl rfl rfl) t2 hm2 (hNf F4.toM hf3) (F3.trans (up4 F4.toM))
    refine hR 60 58 _ _ _ _ _ _ rfl ?_
    refine ⟨L'.K 1412 rfl, jcallP c245 ?_⟩
    rintro o h3 ⟨rfl, ⟨m2, w0, s3, t1, t2, hm2⟩, F3⟩
    exact r118 h3 m2 w0 _ s3 t1 t2 hm2 (hNf F3 hf') (F.trans (up4 F3))
  have r96 : ∀ (h' : mj_H) (xL yL : Int64) (x11 x12 : Option Value), Int.gcd (Int.gcd m b) f0.2.2 = 1 → okF (itF d w n f0) → isMm h' (itF d w n f0) → FrM iTr jF sTr h h' → isOK h' → isNf h' fs → xL = jL (itK d w n f0 (0, 1)).2 → yL = jL (-(itK d w n f0 (0, 1)).1) → Run 96 (l243 (jL g) (jL m) (jL b) xL yL x11 x12) [] h' (0, 0) := by
    intro h' xL yL x11 x12 hgc hok hmm F ho' hf' ex ey
    have L' := F.lay L
    obtain ⟨o1, o2, o3, o4⟩ := hok
    have c244 := ct_244 G L' (hq.M F (by omega) (by omega)) hmm (by omega)
    have r102 : ∀ (pI' : Int) (x12 : Option Value), ((∃ p : Nat, p < r ∧ RA p = ((itF d w n f0).1, (itF d w n f0).2.1) ∧ (∀ i, i < p → RA i ≠ ((itF d w n f0).1, (itF d w n f0).2.1)) ∧ pI' = p) ∨ ((∀ i, i < r → RA i ≠ ((itF d w n f0).1, (itF d w n f0).2.1)) ∧ pI' = -1)) → Run 102 (l243 (jL g) (jL m) (jL b) xL yL (some (.int (jI pI'))) x12) [] h' (0, 0) := by
      intro pI' x12 hcase
      have hr4 := hq.2.1
      refine hR 60 55 _ _ _ _ _ _ rfl ?_
      rcases hcase with ⟨p, p1, p2, p3, rfl⟩ | ⟨p1, rfl⟩
      · obtain ⟨u, v, hfm, hRe⟩ := r3 hgc p p1 p2 p3
        refine ⟨fun c => fam p u v p1 hfm hRe h' _ _ _ F ho' hf' ex ey, fun c => ?_⟩
        simp (disch := omega) only [mj_lcm, jI_lt, jI_le, jI_eq, jL_lt, jL_le, jL_eq, jI_lt0, jI_0le, jI_0lt, jI_le0, jI_eq0, jL_eq0, jI_L, jI_add, jI_sub, jI_mul, jI_neg, jL_add, jL_sub, jL_mul, jL_neg, jL_I, jI_div, jI_mod, jL_div, jL_mod] at c
        omega
      · refine ⟨fun c => absurd c (by decide), fun c => ⟨rfl, ?_, ho', F⟩⟩
        rw [r2 hgc p1, List.append_nil]
        exact hf'
    refine hR 60 52 _ _ _ _ _ _ rfl ?_
    refine ⟨L'.K 1412 rfl, jcallP c244 ?_⟩
    rintro o h3 ⟨e3, hcase⟩
    have e3' := e3.symm
    subst e3'
    rcases hcase with ⟨p, p1, p2, p3, rfl⟩ | ⟨p1, rfl⟩
    · exact r102 (p : Nat) _ (Or.inl ⟨p, p1, p2, p3, rfl⟩)
    · exact r102 (-1) _ (Or.inr ⟨p1, rfl⟩)
  have r61 : ∀ (k : Nat) (f : Fm) (q : zI) (h' : mj_H) (xL yL : Int64) (x11 x12 : Option Value), Int.gcd (Int.gcd m b) f0.2.2 = 1 → trm d w k f → itF d w k f = itF d w n f0 → itK d w k f q = itK d w n f0 (0, 1) → isMm h' f → FrM iTr jF sTr h h' → isOK h' → isNf h' fs → xL = jL q.2 → yL = jL (-q.1) → Run 61 (l243 (jL g) (jL m) (jL b) xL yL x11 x12) [] h' (0, 0) := by
    intro k
    induction k with
    | zero =>
      rintro f q h' xL yL x11 x12 hgc tf ef eq hmm F ho' hf' rfl rfl
      have L' := F.lay L
      have ef' : f = itF d w n f0 := ef
      have eq' : q = itK d w n f0 (0, 1) := eq
      refine hR 60 34 _ _ _ _ _ _ rfl ?_
      refine ⟨L'.K 1412 rfl, jcall (ct_195 G L' (hMw F) (by omega) (by omega) hwb hmm tf.1 (fun z => by omega)) ?_⟩
      rw [tf.2]
      refine ⟨fun c => absurd c (by decide), fun c => ?_⟩
      exact r96 h' _ _ _ _ hgc (ef' ▸ tf.1) (ef' ▸ hmm) F ho' hf' (by rw [eq']) (by rw [eq'])
    | succ k ih =>
      rintro f q h' xL yL x11 x12 hgc tf ef eq hmm F ho' hf' rfl rfl
      have L' := F.lay L
      have r89 : ∀ (h3 : mj_H) (xL yL zL : Int64), isMm h3 (nx d w f) → FrM iTr jF sTr h h3 → isOK h3 → isNf h3 fs → yL = jL (-q.2) → zL = jL (nkE d w f.2.1 f.2.2 * q.2 - q.1) → Run 89 (l243 (jL g) (jL m) (jL b) xL yL (some (.long zL)) none) [] h3 (0, 0) := by
        intro h3 xL yL zL m3 F3 o3 f3 ey ez
        refine hR 60 49 _ _ _ _ _ _ rfl ?_
        exact ih (nx d w f) (q.2, nkE d w f.2.1 f.2.2 * q.2 - q.1) h3 _ _ _ _ hgc tf.2 ef eq m3 F3 o3 f3 ez ey
      have r84 : ∀ (h3 : mj_H) (yL zL : Int64), isMm h3 (nx d w f) → FrM iTr jF sTr h h3 → isOK h3 → isNf h3 fs → zL = jL (nkE d w f.2.1 f.2.2 * q.2 - q.1) → Run 84 (l243 (jL g) (jL m) (jL b) (jL q.2) yL (some (.long zL)) none) [] h3 (0, 0) := by
        intro h3 yL zL m3 F3 o3 f3 ez
        refine hR 60 46 _ _ _ _ _ _ rfl ?_
        exact r89 h3 _ _ _ m3 F3 o3 f3 (by rw [jL_neg]) ez
      have r72 : ∀ (h3 : mj_H) (x11 x12 : Option Value), isMm h3 (nx d w f) → hJ h3 1412 53 = jL (nkE d w f.2.1 f.2.2) → FrM iTr jF sTr h h3 → isOK h3 → isNf h3 fs → Run 72 (l243 (jL g) (jL m) (jL b) (jL q.2) (jL (-q.1)) x11 x12) [] h3 (0, 0) := by
        intro h3 x11 x12 m3 e53 F3 o3 f3
        refine hR 60 39 _ _ _ _ _ _ rfl ?_
        refine ⟨(F3.lay L).K 1412 rfl, ?_⟩
        rw [e53]
        refine r84 h3 _ _ m3 F3 o3 f3 ?_
        rw [jL_mul, jL_add]
        congr 1
      have r68 : ∀ (x11 x12 : Option Value), Run 68 (l243 (jL g) (jL m) (jL b) (jL q.2) (jL (-q.1)) x11 x12) [] h' (0, 0) := by
        intro x11 x12
        refine hR 60 37 _ _ _ _ _ _ rfl ?_
        refine ⟨L'.K 1412 rfl, jcallP (ct_199 G L' (hMw F) (by omega) hwb hmm tf.1.1) ?_⟩
        rintro o h3 ⟨rfl, m3, e53, F3⟩
        exact r72 h3 _ _ m3 e53 (F.trans (up F3)) (hOK F3 ho') (hf'.M F3 (fun z => z) (fun _ _ z => z))
      refine hR 60 34 _ _ _ _ _ _ rfl ?_
      refine ⟨L'.K 1412 rfl, jcall (ct_195 G L' (hMw F) (by omega) (by omega) hwb hmm tf.1.1 (fun z => by omega)) ?_⟩
      rw [tf.1.2]
      exact ⟨fun c => r68 _ _, fun c => absurd rfl c⟩
  have r37 : ∀ (h' : mj_H) (x11 x12 : Option Value), isMm h' f0 → FrM iTr jF sTr h h' → isOK h' → isNf h' fs → Run 37 (l243 (jL g) (jL m) (jL b) (jL 1) (jL 0) x11 x12) [] h' (0, 0) := by
    intro h' x11 x12 hmm F ho' hf'
    have L' := F.lay L
    have e1 : hJ h' 1412 50 = jL m := hmm.1.trans (by rw [f01.1])
    have e2 : hJ h' 1412 51 = jL b := hmm.2.1.trans (by rw [f01.2.1])
    have e3 := hmm.2.2
    have hg1 := Int.gcd_le_natAbs_left (a := m) b hm0
    have hg1' : (Int.gcd m b : Int) ≠ 0 := by
      have := Int.gcd_pos_of_ne_zero_left b hm0
      omega
    have hg2 := Int.gcd_le_natAbs_left (a := (Int.gcd m b : Int)) f0.2.2 hg1'
    have c197 := ct_197 G (x := m) (y := b) (by omega) (by omega) (by omega) (by omega) h'
    rw [← e1, ← e2] at c197
    have c197b := ct_197 G (x := (Int.gcd m b : Int)) (y := f0.2.2) (by omega) (by omega) (by rw [f01.2.2]; omega) (by rw [f01.2.2]; omega) h'
    rw [← e3] at c197b
    refine hR 60 22 _ _ _ _ _ _ rfl ?_
    refine ⟨L'.K 1412 rfl, L'.K 1412 rfl, jcall c197 ⟨L'.K 1412 rfl, jcall c197b ?_⟩⟩
    refine ⟨fun c => ?_, fun c => ?_⟩
    · have c' : jL (Int.gcd (Int.gcd m b) f0.2.2 : Int) = jL 1 := c
      rw [jL_eq (by omega) (by omega) (by omega) (by omega)] at c'
      have hgc : Int.gcd (Int.gcd m b) f0.2.2 = 1 := by omega
      exact r61 n f0 (0, 1) h' _ _ _ _ hgc (ht hgc) rfl rfl hmm F ho' hf' rfl rfl
    · have c' : ¬ jL (Int.gcd (Int.gcd m b) f0.2.2 : Int) = jL 1 := c
      rw [jL_eq (by omega) (by omega) (by omega) (by omega)] at c'
      refine ⟨rfl, ?_, ho', F⟩
      rw [r1 (by omega), List.append_nil]
      exact hf'
  have r31 : ∀ (h' : mj_H) (x7 x8 x9 x10 x11 x12 : Option Value), isMm h' f0 → FrM iTr jF sTr h h' → isOK h' → isNf h' fs → Run 31 [some (.ref 1412), some (.long (jL g)), none, some (.long (jL m)), none, some (.long (jL b)), none, x7, x8, x9, x10, x11, x12] [] h' (0, 0) := by
    intro h' x7 x8 x9 x10 x11 x12 hmm F ho' hf'
    refine hR 60 18 _ _ _ _ _ _ rfl ?_
    exact r37 h' _ _ hmm F ho' hf'
  refine hR 60 0 _ _ _ _ _ _ rfl ?_
  refine ⟨L.K 1412 rfl, L.K 1412 rfl, L.K 1412 rfl, ?_, L.K 1412 rfl, ?_⟩
  · simp (disch := omega) only [mj_lcm, jI_lt, jI_le, jI_eq, jL_lt, jL_le, jL_eq, jI_lt0, jI_0le, jI_0lt, jI_le0, jI_eq0, jL_eq0, jI_L, jI_add, jI_sub, jI_mul, jI_neg, jL_add, jL_sub, jL_mul, jL_neg, jL_I, jI_div, jI_mod, jL_div, jL_mod]
    omega
  · have F0 : FrM noT jF noT h (sJ (sJ (sJ h 1412 50 (jL m)) 1412 51 (jL b)) 1412 52 ((jL b * jL b - hJ h 1412 1) / (jL 4 * jL m))) := (((FrM.refl noT jF noT h).fJ (k := 50) (by omega) _).fJ (k := 51) (by omega) _).fJ (k := 52) (by omega) _
    refine r31 _ _ _ _ _ _ _ ⟨?_, ?_, ?_⟩ (up F0) (hOK F0 ho) (hf.M F0 (fun z => z) (fun _ _ z => z))
    · rw [f01.1]
      rfl
    · rw [f01.2.1]
      rfl
    · refine (sJ_at _ _ _ _).trans ?_
      show (jL b * jL b - hJ h 1412 1) / (jL 4 * jL m) = _
      rw [hw.1, f01.2.2, jL_mul, jL_mul, jL_sub, jL_div (by omega) (by omega) (by omega) (by omega)]
