/-! the model: tellers -/
abbrev l258 (n : Int) (x2 x3 x4 x5 : Option Value) : mj_Ls := [some (.ref 1412), some (.int (jI n)), x2, x3, x4, x5]
abbrev iTe (k : Nat) : Prop := k = 0 ∨ k = 31
abbrev sTe (c : Nat) : Prop := c = 1427 ∨ c = 1428
/-- y is a root that gives a primitive form -/
def prY (d n : Int) (y : Nat) : Prop := rtD (4 * n.natAbs) d y ∧ Int.gcd (Int.gcd n y) (fmP d (n, (y : Int))).2.2 = 1
/-- what is to be known of one root -/
def teOK (d w : Int) (N : Nat) (A : Nat → pI) (cls : Nat → Int) (cnt : Nat) (n : Int) (cf : Nat → Nat) (y : Nat) : Prop := ∃ m k : Nat, trm d w m (fmP d (n, (y : Int))) ∧ (d < 0 → posT d w m (fmP d (n, (y : Int)))) ∧ k < N ∧ ((itF d w m (fmP d (n, (y : Int)))).1 = (A k).1 ∧ (itF d w m (fmP d (n, (y : Int)))).2.1 = (A k).2) ∧ cls k = (cf y : Int) ∧ cf y < cnt
def hitK (d n : Int) (cf : Nat → Nat) (Y k : Nat) : Prop := ∃ y, y < Y ∧ prY d n y ∧ cf y = k
/-- how far the roots are gone through -/
def teY (d n : Int) : Nat := if 0 < d ∨ 0 < n then 2 * n.natAbs else 0
noncomputable def teL (p : Nat → Prop) : Nat → List Nat
  | 0 => []
  | k + 1 => teL p k ++ @ite _ (p k) (Classical.propDecidable _) [k] []
theorem teL_len (p : Nat → Prop) : ∀ k, (teL p k).length ≤ k
  | 0 => Nat.le_refl _
  | k + 1 => by
    have := teL_len p k
    show (teL p k ++ _).length ≤ _
    rw [List.length_append]
    split
    · simp only [List.length_cons, List.length_nil]
      omega
    · simp only [List.length_nil]
      omega
theorem teL_pos {p : Nat → Prop} {k : Nat} (h : p k) : teL p (k + 1) = teL p k ++ [k] := by
  show teL p k ++ _ = _
  rw [if_pos h]
theorem teL_neg {p : Nat → Prop} {k : Nat} (h : ¬ p k) : teL p (k + 1) = teL p k := by
  show teL p k ++ _ = _
  rw [if_neg h, List.append_nil]
def isTe (h : mj_H) (ts : List Nat) : Prop := hI h 1412 31 = jI ts.length ∧ ∀ i t, ts[i]? = some t → hI h 1427 i = jI (t : Nat)
def isTs (h : mj_H) (cnt : Nat) (p : Nat → Prop) : Prop := ∀ k, k < cnt → (p k → hI h 1428 k = jI 1) ∧ (¬ p k → hI h 1428 k = jI 0)
theorem isTs.congr {h : mj_H} {cnt : Nat} {p q : Nat → Prop} (a : isTs h cnt p) (e : ∀ k, p k ↔ q k) : isTs h cnt q := fun k hk => ⟨fun z => (a k hk).1 ((e k).2 z), fun z => (a k hk).2 (fun y => z ((e k).1 y))⟩
theorem isTs.put {h : mj_H} {cnt : Nat} {p : Nat → Prop} (a : isTs h cnt p) (c : Nat) : isTs (sI h 1428 c (jI 1)) cnt (fun k => p k ∨ k = c) := by
  intro k hk
  by_cases e : k = c
  · subst e
    exact ⟨fun _ => sI_at _ _ _ _, fun z => absurd (Or.inr rfl) z⟩
  · rw [sI_k _ _ e]
    exact ⟨fun z => (a k hk).1 (z.resolve_right e), fun z => (a k hk).2 (fun y => z (Or.inl y))⟩
theorem hit_s (d n : Int) (cf : Nat → Nat) (Y k : Nat) : hitK d n cf (Y + 1) k ↔ hitK d n cf Y k ∨ (prY d n Y ∧ k = cf Y) := by
  constructor
  · rintro ⟨y, h1, h2, h3⟩
    by_cases e : y = Y
    · subst e
      exact Or.inr ⟨h2, h3.symm⟩
    · exact Or.inl ⟨y, by omega, h2, h3⟩
  · rintro (⟨y, h1, h2, h3⟩ | ⟨h1, h2⟩)
    · exact ⟨y, by omega, h2, h3⟩
    · exact ⟨Y, by omega, h1, h2.symm⟩
/-- FormHouseModel.tellers(I)I; cuts at [36, 38, 46, 59, 64, 65, 68, 79, 92, 116, 124, 147, 157, 166, 171, 174, 183, 196, 207, 217] -/
def cl_258_5 : List mj_E := (223, false, .aload_n 0, 1, 0, 0, 0, 0, 0) ::
  (224, false, .getfield 233, 3, 17, 31, 0, 0, 0) ::
  (227, false, .ireturn, 1, 0, 0, 0, 0, 0) ::
  []
def cl_258_4 : List mj_E := (174, true, .iload 4, 2, 0, 0, 0, 0, 0) ::
  (176, false, .aload_n 0, 1, 0, 0, 0, 0, 0) ::
  (177, false, .getfield 169, 3, 17, 7, 0, 0, 0) ::
  (180, false, .if_icmp .ge 43, 3, 120, 0, 0, 0, 0) ::
  (183, true, .aload_n 0, 1, 0, 0, 0, 0, 0) ::
  (184, false, .getfield 76, 3, 17, 33, 2, 0, 0) ::
  (187, false, .iload 4, 2, 0, 0, 0, 0, 0) ::
  (189, false, .baload, 1, 0, 0, 0, 0, 0) ::
  (190, false, .ifCond .ne 6, 3, 106, 0, 0, 0, 0) ::
  (193, false, .goto 24, 3, 118, 0, 0, 0, 0) ::
  (196, true, .aload_n 0, 1, 0, 0, 0, 0, 0) ::
  (197, false, .getfield 73, 3, 17, 32, 2, 0, 0) ::
  (200, false, .aload_n 0, 1, 0, 0, 0, 0, 0) ::
  (201, false, .getfield 233, 3, 17, 31, 0, 0, 0) ::
  (204, false, .iload 4, 2, 0, 0, 0, 0, 0) ::
  (206, false, .iastore, 1, 0, 0, 0, 0, 0) ::
  (207, true, .aload_n 0, 1, 0, 0, 0, 0, 0) ::
  (208, false, .dup, 1, 0, 0, 0, 0, 0) ::
  (209, false, .getfield 233, 3, 17, 31, 0, 0, 0) ::
  (212, false, .iconst 1, 1, 0, 0, 0, jI 1, 0) ::
  (213, false, .iadd, 1, 0, 0, 0, 0, 0) ::
  (214, false, .putfield 233, 3, 17, 31, 0, 0, 0) ::
  (217, true, .iinc 4 1, 3, 0, 0, 0, jI 1, 0) ::
  (220, false, .goto (-46), 3, 96, 0, 0, 0, 0) ::
  cl_258_5
def cl_258_3 : List mj_E := (129, false, .getfield 135, 3, 17, 51, 1, 0, 0) ::
  (132, false, .invokestatic 166, 3, 197, 2, 0, 0, 0) ::
  (135, false, .aload_n 0, 1, 0, 0, 0, 0, 0) ::
  (136, false, .getfield 140, 3, 17, 52, 1, 0, 0) ::
  (139, false, .invokestatic 166, 3, 197, 2, 0, 0, 0) ::
  (142, false, .lconst 1, 1, 0, 0, 0, 0, jL 1) ::
  (143, false, .lcmp, 1, 0, 0, 0, 0, 0) ::
  (144, false, .ifCond .ne 13, 3, 86, 0, 0, 0, 0) ::
  (147, true, .aload_n 0, 1, 0, 0, 0, 0, 0) ::
  (148, false, .getfield 76, 3, 17, 33, 2, 0, 0) ::
  (151, false, .aload_n 0, 1, 0, 0, 0, 0, 0) ::
  (152, false, .invokevirtual 195, 3, 202, 0, 17, 0, 0) ::
  (155, false, .iconst 1, 1, 0, 0, 0, jI 1, 0) ::
  (156, false, .bastore, 1, 0, 0, 0, 0, 0) ::
  (157, true, .lload 4, 2, 0, 0, 0, 0, 0) ::
  (159, false, .lconst 1, 1, 0, 0, 0, 0, jL 1) ::
  (160, false, .ladd, 1, 0, 0, 0, 0, 0) ::
  (161, false, .lstore 4, 2, 0, 0, 0, 0, 0) ::
  (163, false, .goto (-95), 3, 37, 0, 0, 0, 0) ::
  (166, true, .aload_n 0, 1, 0, 0, 0, 0, 0) ::
  (167, false, .iconst 0, 1, 0, 0, 0, jI 0, 0) ::
  (168, false, .putfield 233, 3, 17, 31, 0, 0, 0) ::
  (171, true, .iconst 0, 1, 0, 0, 0, jI 0, 0) ::
  (172, false, .istore 4, 2, 0, 0, 0, 0, 0) ::
  cl_258_4
def cl_258_2 : List mj_E := (88, false, .iload_n 1, 1, 0, 0, 0, 0, 0) ::
  (89, false, .ifCond .le 77, 3, 91, 0, 0, 0, 0) ::
  (92, true, .lload 4, 2, 0, 0, 0, 0, 0) ::
  (94, false, .lload 4, 2, 0, 0, 0, 0, 0) ::
  (96, false, .lmul, 1, 0, 0, 0, 0, 0) ::
  (97, false, .aload_n 0, 1, 0, 0, 0, 0, 0) ::
  (98, false, .getfield 9, 3, 17, 1, 1, 0, 0) ::
  (101, false, .lsub, 1, 0, 0, 0, 0, 0) ::
  (102, false, .ldc2_w 138, 3, 0, 0, 0, 0, jL 4) ::
  (105, false, .lload_n 2, 1, 0, 0, 0, 0, 0) ::
  (106, false, .lmul, 1, 0, 0, 0, 0, 0) ::
  (107, false, .lrem, 1, 0, 0, 0, 0, 0) ::
  (108, false, .lconst 0, 1, 0, 0, 0, 0, jL 0) ::
  (109, false, .lcmp, 1, 0, 0, 0, 0, 0) ::
  (110, false, .ifCond .eq 6, 3, 64, 0, 0, 0, 0) ::
  (113, false, .goto 44, 3, 86, 0, 0, 0, 0) ::
  (116, true, .aload_n 0, 1, 0, 0, 0, 0, 0) ::
  (117, false, .iload_n 1, 1, 0, 0, 0, 0, 0) ::
  (118, false, .i2l, 1, 0, 0, 0, 0, 0) ::
  (119, false, .lload 4, 2, 0, 0, 0, 0, 0) ::
  (121, false, .invokevirtual 150, 3, 194, 2, 17, 0, 0) ::
  (124, true, .aload_n 0, 1, 0, 0, 0, 0, 0) ::
  (125, false, .getfield 132, 3, 17, 50, 1, 0, 0) ::
  (128, false, .aload_n 0, 1, 0, 0, 0, 0, 0) ::
  cl_258_3
def cl_258_1 : List mj_E := (46, true, .aload_n 0, 1, 0, 0, 0, 0, 0) ::
  (47, false, .getfield 76, 3, 17, 33, 2, 0, 0) ::
  (50, false, .iload_n 2, 1, 0, 0, 0, 0, 0) ::
  (51, false, .iconst 0, 1, 0, 0, 0, jI 0, 0) ::
  (52, false, .bastore, 1, 0, 0, 0, 0, 0) ::
  (53, false, .iinc 2 1, 3, 0, 0, 0, jI 1, 0) ::
  (56, false, .goto (-18), 3, 20, 0, 0, 0, 0) ::
  (59, true, .iload_n 1, 1, 0, 0, 0, 0, 0) ::
  (60, false, .i2l, 1, 0, 0, 0, 0, 0) ::
  (61, false, .invokestatic 124, 3, 196, 1, 0, 0, 0) ::
  (64, true, .lstore_n 2, 1, 0, 0, 0, 0, 0) ::
  (65, true, .lconst 0, 1, 0, 0, 0, 0, jL 0) ::
  (66, false, .lstore 4, 2, 0, 0, 0, 0, 0) ::
  (68, true, .lload 4, 2, 0, 0, 0, 0, 0) ::
  (70, false, .ldc2_w 130, 3, 0, 0, 0, 0, jL 2) ::
  (73, false, .lload_n 2, 1, 0, 0, 0, 0, 0) ::
  (74, false, .lmul, 1, 0, 0, 0, 0, 0) ::
  (75, false, .lcmp, 1, 0, 0, 0, 0, 0) ::
  (76, false, .ifCond .ge 90, 3, 91, 0, 0, 0, 0) ::
  (79, true, .aload_n 0, 1, 0, 0, 0, 0, 0) ::
  (80, false, .getfield 9, 3, 17, 1, 1, 0, 0) ::
  (83, false, .lconst 0, 1, 0, 0, 0, 0, jL 0) ::
  (84, false, .lcmp, 1, 0, 0, 0, 0, 0) ::
  (85, false, .ifCond .gt 7, 3, 50, 0, 0, 0, 0) ::
  cl_258_2
def cl_258_0 : List mj_E := (0, false, .aload_n 0, 1, 0, 0, 0, 0, 0) ::
  (1, false, .iload_n 1, 1, 0, 0, 0, 0, 0) ::
  (2, false, .ifCond .eq 17, 3, 9, 0, 0, 0, 0) ::
  (5, false, .iload_n 1, 1, 0, 0, 0, 0, 0) ::
  (6, false, .i2l, 1, 0, 0, 0, 0, 0) ::
  (7, false, .ldc2_w 419, 3, 0, 0, 0, 0, jL (-1000000)) ::
  (10, false, .ldc2_w 421, 3, 0, 0, 0, 0, jL 1000000) ::
  (13, false, .invokestatic 244, 3, 225, 3, 0, 0, 0) ::
  (16, false, .ifCond .ne 7, 3, 11, 0, 0, 0, 0) ::
  (19, false, .iconst 1, 1, 0, 0, 0, jI 1, 0) ::
  (20, false, .goto 4, 3, 12, 0, 0, 0, 0) ::
  (23, false, .iconst 0, 1, 0, 0, 0, jI 0, 0) ::
  (24, false, .putfield 120, 3, 17, 0, 0, 0, 0) ::
  (27, false, .aload_n 0, 1, 0, 0, 0, 0, 0) ::
  (28, false, .getfield 120, 3, 17, 0, 0, 0, 0) ::
  (31, false, .ifCond .le 5, 3, 18, 0, 0, 0, 0) ::
  (34, false, .iconst 0, 1, 0, 0, 0, jI 0, 0) ::
  (35, false, .ireturn, 1, 0, 0, 0, 0, 0) ::
  (36, true, .iconst 0, 1, 0, 0, 0, jI 0, 0) ::
  (37, false, .istore_n 2, 1, 0, 0, 0, 0, 0) ::
  (38, true, .iload_n 2, 1, 0, 0, 0, 0, 0) ::
  (39, false, .aload_n 0, 1, 0, 0, 0, 0, 0) ::
  (40, false, .getfield 169, 3, 17, 7, 0, 0, 0) ::
  (43, false, .if_icmp .ge 16, 3, 31, 0, 0, 0, 0) ::
  cl_258_1
def cd_258 : List mj_E := cl_258_0
def cx_258 : mj_X := (1, [], [])
theorem tb_258 : mj_tab (mj_mt 258) cx_258 cd_258 mj_mh [(0, 0, 0), (0, 0, 0), (0, 0, 0), (0, 0, 0), (0, 0, 0), (8057, 0, 0), (8058, 0, 0), (8044, 0, 0), (0, 0, 0), (0, 0, 0), (0, 0, 0), (0, 0, 0), (7099, 0, 0), (0, 0, 0), (7099, 0, 0), (0, 0, 0), (0, 0, 0), (0, 0, 0), (0, 0, 0), (0, 0, 0), (0, 0, 0), (0, 0, 0), (7106, 0, 0), (0, 0, 0), (0, 0, 0), (7132, 0, 0), (0, 0, 0), (0, 0, 0), (0, 0, 0), (0, 0, 0), (0, 0, 0), (0, 0, 0), (0, 0, 0), (6233, 0, 0), (0, 0, 0), (0, 0, 0), (0, 0, 0), (0, 0, 0), (6218, 0, 0), (0, 0, 0), (0, 0, 0), (0, 0, 0), (0, 0, 0), (0, 0, 0), (7100, 0, 0), (0, 0, 0), (0, 0, 0), (0, 0, 0), (0, 0, 0), (0, 0, 0), (0, 0, 0), (0, 0, 0), (0, 0, 0), (0, 0, 0), (7100, 0, 0), (0, 0, 0), (6224, 0, 0), (0, 0, 0), (0, 0, 0), (0, 0, 0), (0, 0, 0), (0, 0, 0), (0, 0, 0), (0, 0, 0), (0, 0, 0), (0, 0, 0), (0, 0, 0), (0, 0, 0), (6225, 0, 0), (0, 0, 0), (7149, 0, 0), (0, 0, 0), (7150, 0, 0), (6236, 0, 0), (0, 0, 0), (7151, 0, 0), (6236, 0, 0), (0, 0, 0), (0, 0, 0), (0, 0, 0), (0, 0, 0), (7132, 0, 0), (0, 0, 0), (7014, 0, 0), (0, 0, 0), (0, 0, 0), (0, 0, 0), (0, 0, 0), (0, 0, 0), (0, 0, 0), (0, 0, 0), (0, 0, 0), (0, 0, 0), (7130, 0, 0), (0, 0, 0), (0, 0, 0), (0, 0, 0), (0, 0, 0), (7106, 0, 0), (0, 0, 0), (0, 0, 0), (7132, 0, 0), (0, 0, 0), (0, 0, 0), (0, 0, 0), (0, 0, 0), (0, 0, 0), (7131, 0, 0), (0, 0, 0), (7130, 0, 0), (0, 0, 0), (0, 0, 0), (0, 0, 0), (0, 0, 0), (7130, 0, 0), (0, 0, 0), (0, 0, 0), (7130, 0, 0), (0, 0, 0), (0, 0, 0), (0, 0, 0), (7130, 0, 0), (0, 0, 0)] = true := mj_tab_f (by decide +kernel)
theorem ct_258 (G : mj_G) {h : mj_H} (L : isLam h) {d w : Int} (hw : isMw h d w) (hd : -1099511627776 < d ∧ d < 1099511627776) (hd0 : d ≠ 0) (hwb : -1 ≤ w ∧ w < 2147483648) {N : Nat} {A : Nat → pI} (hA : isMa h N A) (hS : sst N A) {cls : Nat → Int} {cnt : Nat} {nm : Nat → Nat} (hc : isMc h N cls cnt nm) (hcn : cnt ≤ 4096) {n : Int} (hn : -2147483648 ≤ n ∧ n < 2147483648) {cf : Nat → Nat} (hok : inQ n → ∀ y, y < teY d n → prY d n y → teOK d w N A cls cnt n cf y) : mj_Ct G (mj_mt 258) 0 0 [.ref 1412, .int (jI n)] h (fun o h' => (¬ inQ n → jB 0 1 h o h') ∧ (inQ n → o = .returned (some (.int (jI (teL (hitK d n cf (teY d n)) cnt).length))) ∧ hI h' 1412 0 = jI 0 ∧ isTe h' (teL (hitK d n cf (teY d n)) cnt) ∧ FrM iTe jF sTe h h')) := by
  have k := L.K 1412 rfl
  obtain ⟨pp, hpp⟩ : ∃ pp, pp = hitK d n cf (teY d n) := ⟨_, rfl⟩
  rw [← hpp]
  have hlen := teL_len pp cnt
  have hMw : ∀ {h' : mj_H}, FrM iTe jF sTe h h' → isMw h' d w := fun F => hw.M F (by omega) (by omega)
  have h7 : ∀ {h' : mj_H}, FrM iTe jF sTe h h' → hI h' 1412 7 = jI cnt := fun F => (F.2.2.1 7 (by omega)).trans hc.1
  have nat : ∀ {k : Nat}, k < 262144 → (jI (k : Int)).toNatClampNeg = k := by
    intro k hk
    rw [jI_nat (by omega) (by omega), Int.toNat_natCast]
  have vin : ∀ {k M : Nat}, M = 4096 → k < 4096 → vp_in (jI (k : Int)) M := by
    rintro k M rfl hk
    exact jI_in (by omega) (by omega) (by omega)
  refine mj_Ct_of mj_ok tb_258 rfl rfl (Nat.le_of_ble_eq_true rfl) (fun Run hR => ?_)
  have r174 : inQ n → ∀ (p i : Nat) (iI : Int32) (h' : mj_H) (x2 x3 x5 : Option Value), i + p = cnt → isTs h' cnt pp → isTe h' (teL pp i) → hI h' 1412 0 = jI 0 → FrM iTe jF sTe h h' → iI = jI i → Run 174 (l258 n x2 none (some (.int iI)) x5) [] h' (0, 0) := by
    intro hq p
    induction p with
    | zero =>
      rintro i iI h' x2 x3 x5 hi ts te e0 F rfl
      have ei : i = cnt := by omega
      subst ei
      have L' := F.lay L
      refine hR 60 96 _ _ _ _ _ _ rfl ?_
      refine ⟨L'.K 1412 rfl, fun c => ⟨L'.K 1412 rfl, fun z => absurd hq z, fun _ => ⟨?_, e0, te, F⟩⟩, fun c => ?_⟩
      · rw [te.1]
      · rw [h7 F] at c
        simp (disch := omega) only [mj_lcm, jI_lt, jI_le, jI_eq, jL_lt, jL_le, jL_eq, jI_lt0, jI_0le, jI_0lt, jI_le0, jI_eq0, jL_eq0, jI_L, jI_add, jI_sub, jI_mul, jI_neg, jL_add, jL_sub, jL_mul, jL_neg, jL_I, jI_div, jI_mod, jL_div, jL_mod] at c
        omega
    | succ p ih =>
      rintro i iI h' x2 x3 x5 hi ts te e0 F rfl
      have L' := F.lay L
      have hli := teL_len pp i
      have r217 : ∀ (h4 : mj_H) (x2 x5 : Option Value), isTs h4 cnt pp → isTe h4 (teL pp (i + 1)) → hI h4 1412 0 = jI 0 → FrM iTe jF sTe h h4 → Run 217 (l258 n x2 none (some (.int (jI i))) x5) [] h4 (0, 0) := by
        intro h4 x2 x5 ts4 te4 e4 F4
        refine hR 60 118 _ _ _ _ _ _ rfl ?_
        exact ih (i + 1) _ h4 _ none _ (by omega) ts4 te4 e4 F4 (by rw [jI_add]; rfl)
      have r196 : pp i → ∀ (x2 x5 : Option Value), Run 196 (l258 n x2 none (some (.int (jI i))) x5) [] h' (0, 0) := by
        intro hpi x2 x5
        have ep := teL_pos hpi
        have r207 : ∀ (x2 x5 : Option Value), Run 207 (l258 n x2 none (some (.int (jI i))) x5) [] (sI h' 1427 (teL pp i).length (jI (i : Int))) (0, 0) := by
          intro x2 x5
          have e31 : hI (sI h' 1427 (teL pp i).length (jI (i : Int))) 1412 31 = jI (teL pp i).length := te.1
          refine hR 60 112 _ _ _ _ _ _ rfl ?_
          refine ⟨L'.K 1412 rfl, L'.K 1412 rfl, ?_⟩
          rw [e31]
          refine r217 _ _ _ ts ⟨?_, fun j t ht => ?_⟩ e0 ((F.aI (c := 1427) (by omega) (by decide) _ _).fI (k := 31) (by omega) _)
          · rw [ep, sI_at, jI_add, List.length_append]
            rfl
          · rw [ep] at ht
            by_cases e : j = (teL pp i).length
            · subst e
              rw [List.getElem?_append_right (Nat.le_refl _), Nat.sub_self] at ht
              have h9 : some i = some t := ht
              rw [← Option.some.inj h9]
              exact sI_at h' 1427 _ _
            · have hil := lt_of_some ht
              simp only [List.length_append, List.length_cons, List.length_nil] at hil
              rw [List.getElem?_append_left (by omega)] at ht
              exact (sI_k h' 1427 e _).trans (te.2 j t ht)
        refine hR 60 106 _ _ _ _ _ _ rfl ?_
        refine ⟨L'.K 1412 rfl, _, L'.R 1412 32 _ rfl, L'.K 1412 rfl, L'.K 1427 rfl, ?_, ?_⟩
        · rw [te.1]
          exact vin (L'.N 1426 rfl) (by omega)
        · rw [te.1, nat (by omega)]
          exact r207 _ _
      have r183 : ∀ (x2 x5 : Option Value), Run 183 (l258 n x2 none (some (.int (jI i))) x5) [] h' (0, 0) := by
        intro x2 x5
        have t1 := ts i (by omega)
        refine hR 60 100 _ _ _ _ _ _ rfl ?_
        refine ⟨L'.K 1412 rfl, _, L'.R 1412 33 _ rfl, L'.K 1428 rfl, vin (L'.N 1427 rfl) (by omega), fun c => ?_, fun c => ?_⟩
        · rw [nat (by omega)] at c
          have hno : ¬ pp i := fun z => by
            rw [t1.1 z] at c
            exact absurd c (by decide)
          rw [teL_neg hno] at r217
          exact r217 h' _ _ ts te e0 F
        · rw [nat (by omega)] at c
          refine r196 (Classical.byContradiction fun z => ?_) _ _
          rw [t1.2 z] at c
          exact absurd rfl c
      refine hR 60 96 _ _ _ _ _ _ rfl ?_
      refine ⟨L'.K 1412 rfl, fun c => ?_, fun c => r183 _ _⟩
      rw [h7 F] at c
      simp (disch := omega) only [mj_lcm, jI_lt, jI_le, jI_eq, jL_lt, jL_le, jL_eq, jI_lt0, jI_0le, jI_0lt, jI_le0, jI_eq0, jL_eq0, jI_L, jI_add, jI_sub, jI_mul, jI_neg, jL_add, jL_sub, jL_mul, jL_neg, jL_I, jI_div, jI_mod, jL_div, jL_mod] at c
      omega
  have r166 : inQ n → ∀ (h' : mj_H) (x2 x4 x5 : Option Value), isTs h' cnt pp → hI h' 1412 0 = jI 0 → FrM iTe jF sTe h h' → Run 166 (l258 n x2 none x4 x5) [] h' (0, 0) := by
    intro hq h' x2 x4 x5 ts e0 F
    have r171 : ∀ (x2 x4 x5 : Option Value), Run 171 (l258 n x2 none x4 x5) [] (sI h' 1412 31 (jI 0)) (0, 0) := by
      intro x2 x4 x5
      refine hR 60 94 _ _ _ _ _ _ rfl ?_
      exact r174 hq cnt 0 _ _ _ none _ (by omega) ts ⟨rfl, fun i t ht => absurd ht (by simp [teL])⟩ e0 (F.fI (k := 31) (by omega) _) rfl
    refine hR 60 91 _ _ _ _ _ _ rfl ?_
    exact ⟨(F.lay L).K 1412 rfl, r171 _ _ _⟩
  have r68 : inQ n → ∀ (p y : Nat) (yL : Int64) (h' : mj_H), y + p = 2 * n.natAbs → (y = 0 ∨ 0 < d ∨ 0 < n) → isTs h' cnt (hitK d n cf y) → hI h' 1412 0 = jI 0 → FrM iTe jF sTe h h' → yL = jL (y : Int) → Run 68 (l258 n (some (.long (jL (n.natAbs : Int)))) none (some (.long yL)) none) [] h' (0, 0) := by
    intro hq p
    obtain ⟨hq1, hq2, hq3⟩ := id hq
    induction p with
    | zero =>
      rintro y yL h' hy hpos ts e0 F rfl
      have e : hitK d n cf y = pp := by
        rw [hpp]
        congr 1
        unfold teY
        rw [if_pos (by omega)]
        omega
      rw [e] at ts
      refine hR 60 37 _ _ _ _ _ _ rfl ?_
      refine ⟨fun c => r166 hq h' _ _ _ ts e0 F, fun c => ?_⟩
      simp (disch := omega) only [mj_lcm, jI_lt, jI_le, jI_eq, jL_lt, jL_le, jL_eq, jI_lt0, jI_0le, jI_0lt, jI_le0, jI_eq0, jL_eq0, jI_L, jI_add, jI_sub, jI_mul, jI_neg, jL_add, jL_sub, jL_mul, jL_neg, jL_I, jI_div, jI_mod, jL_div, jL_mod] at c
      omega
    | succ p ih =>
      rintro y yL h' hy hpos ts e0 F rfl
      have L' := F.lay L
      have hyy : 0 ≤ (y : Int) * y ∧ (y : Int) * y ≤ 4000000000000 := ⟨sqn _, by have := (mbd (a := y) (b := y) (A := 2000000) (B := 2000000) (by omega) (by omega)).2; omega⟩
      have r157 : ∀ (h4 : mj_H), (0 < d ∨ 0 < n) → isTs h4 cnt (hitK d n cf (y + 1)) → hI h4 1412 0 = jI 0 → FrM iTe jF sTe h h4 → Run 157 (l258 n (some (.long (jL (n.natAbs : Int)))) none (some (.long (jL (y : Int)))) none) [] h4 (0, 0) := by
        intro h4 hp4 ts4 e4 F4
        refine hR 60 86 _ _ _ _ _ _ rfl ?_
        exact ih (y + 1) _ h4 (by omega) (Or.inr hp4) ts4 e4 F4 (by rw [jL_add]; rfl)
      have skip : ¬ prY d n y → isTs h' cnt (hitK d n cf (y + 1)) := fun z => ts.congr (fun k => ⟨fun q => (hit_s _ _ _ _ _).2 (Or.inl q), fun q => by
        rcases (hit_s _ _ _ _ _).1 q with q | q
        · exact q
        · exact absurd q.1 z⟩)
      have ups : ∀ {J : Nat → Prop} {h4 h5 : mj_H}, FrM iTe jF sTe h h4 → FrM noT J noT h4 h5 → (∀ k, J k → jF k) → FrM iTe jF sTe h h5 := fun F4 F5 hj => F4.trans (F5.mono (fun _ z => z.elim) hj (fun _ z => z.elim))
      have tsM : ∀ {J : Nat → Prop} {h4 h5 : mj_H} {p : Nat → Prop}, FrM noT J noT h4 h5 → isTs h4 cnt p → isTs h5 cnt p := fun F5 a k hk => by
        rw [F5.I (by decide) (fun z => z) k]
        exact a k hk
      have r116 : (0 < d ∨ 0 < n) → rtD (4 * n.natAbs) d y → Run 116 (l258 n (some (.long (jL (n.natAbs : Int)))) none (some (.long (jL (y : Int)))) none) [] h' (0, 0) := by
        intro hpo hrt
        obtain ⟨f, hf⟩ : ∃ f, f = fmP d (n, (y : Int)) := ⟨_, rfl⟩
        have hf1 : f.1 = n := by rw [hf]; rfl
        have hf2 : f.2.1 = y := by rw [hf]; rfl
        have hf3 : -6000000000000 ≤ f.2.2 ∧ f.2.2 ≤ 6000000000000 := by
          have e : f.2.2 = ((y : Int) * y - d).tdiv (4 * n) := by rw [hf]; rfl
          have h9 := Int.natAbs_tdiv_le_natAbs ((y : Int) * y - d) (4 * n)
          obtain ⟨q, hq⟩ : ∃ q, q = (y : Int) * y - d := ⟨_, rfl⟩
          rw [← hq] at e h9
          rw [e]
          obtain ⟨s, hs⟩ : ∃ s, s = q.tdiv (4 * n) := ⟨_, rfl⟩
          rw [← hs] at h9 ⊢
          omega
        have hpy : prY d n y ↔ Int.gcd (Int.gcd n y) f.2.2 = 1 := by
          unfold prY
          rw [← hf]
          exact ⟨fun z => z.2, fun z => ⟨hrt, z⟩⟩
        have hg1 := Int.gcd_le_natAbs_left (a := n) (y : Int) hq1
        have r147 : ∀ (h5 : mj_H), prY d n y → isMm h5 f → isTs h5 cnt (hitK d n cf y) → hI h5 1412 0 = jI 0 → FrM iTe jF sTe h h5 → Run 147 (l258 n (some (.long (jL (n.natAbs : Int)))) none (some (.long (jL (y : Int)))) none) [] h5 (0, 0) := by
          intro h5 hpr m5 ts5 e5 F5
          have L5 := F5.lay L
          obtain ⟨m, kk, t1, t2, t3, t4, t5, t6⟩ := hok hq y (by unfold teY; rw [if_pos hpo]; omega) hpr
          rw [← hf] at t1 t2 t4
          refine hR 60 80 _ _ _ _ _ _ rfl ?_
          refine ⟨L5.K 1412 rfl, _, L5.R 1412 33 _ rfl, L5.K 1412 rfl, jcallP (ct_202 G L5 (hA.M F5 (by omega) (by omega) (by omega)) hS (hc.M F5 (by omega) (by omega) (by omega)) (hMw F5) hd hd0 hwb m5 t1 t2 t3 t4) ?_⟩
          rintro o h6 ⟨rfl, -, F6⟩
          have L6 := (ups F5 F6 (fun _ z => z)).lay L
          rw [t5]
          refine ⟨L6.K 1428 rfl, vin (L6.N 1427 rfl) (by omega), ?_⟩
          rw [nat (by omega)]
          refine r157 _ hpo (isTs.congr ((tsM F6 ts5).put (cf y)) (fun k => ?_)) ((F6.2.2.1 0 (fun z => z)).trans e5) ((ups F5 F6 (fun _ z => z)).aI (c := 1428) (by omega) (by decide) _ _)
          rw [hit_s]
          exact ⟨fun q => q.elim Or.inl (fun e => Or.inr ⟨hpr, e⟩), fun q => q.elim Or.inl (fun e => Or.inr e.2)⟩
        have r124 : ∀ (h5 : mj_H), isMm h5 f → isTs h5 cnt (hitK d n cf y) → isTs h5 cnt (hitK d n cf y) → hI h5 1412 0 = jI 0 → FrM iTe jF sTe h h5 → Run 124 (l258 n (some (.long (jL (n.natAbs : Int)))) none (some (.long (jL (y : Int)))) none) [] h5 (0, 0) := by
          intro h5 m5 ts5 _ e5 F5
          have L5 := F5.lay L
          have c1 := ct_197 G (x := n) (y := (y : Int)) (by omega) (by omega) (by omega) (by omega) h5
          have c2 := ct_197 G (x := (Int.gcd n y : Nat)) (y := f.2.2) (by omega) (by omega) (by omega) (by omega) h5
          have e1 : hJ h5 1412 50 = jL n := m5.1.trans (by rw [hf1])
          have e2 : hJ h5 1412 51 = jL (y : Int) := m5.2.1.trans (by rw [hf2])
          have e3 := m5.2.2
          rw [← e1, ← e2] at c1
          rw [← e3] at c2
          have hg2 : Int.gcd ((Int.gcd n y : Nat) : Int) f.2.2 ≤ Int.gcd n y := by
            have := Int.gcd_le_natAbs_left (a := ((Int.gcd n y : Nat) : Int)) f.2.2 (by
              have := Int.gcd_pos_of_ne_zero_left (y : Int) hq1
              omega)
            omega
          refine hR 60 69 _ _ _ _ _ _ rfl ?_
          refine ⟨L5.K 1412 rfl, L5.K 1412 rfl, jcall c1 ⟨L5.K 1412 rfl, jcall c2 ⟨fun c => ?_, fun c => ?_⟩⟩⟩
          · have c' : jL ((Int.gcd ((Int.gcd n y : Nat) : Int) f.2.2 : Nat) : Int) = jL 1 := c
            rw [jL_eq (by omega) (by omega) (by omega) (by omega)] at c'
            exact r147 h5 (hpy.2 (by omega)) m5 ts5 e5 F5
          · have c' : ¬ jL ((Int.gcd ((Int.gcd n y : Nat) : Int) f.2.2 : Nat) : Int) = jL 1 := c
            rw [jL_eq (by omega) (by omega) (by omega) (by omega)] at c'
            refine r157 h5 hpo (ts5.congr (fun k => ?_)) e5 F5
            rw [hit_s]
            exact ⟨Or.inl, fun q => q.elim id (fun z => absurd (hpy.1 z.1) (by omega))⟩
        have c194 := ct_194 G L' (hMw F) hd (x := n) (y := (y : Int)) hq1 (by omega) (by omega)
        rw [← jI_L hn.1 hn.2, ← hf] at c194
        refine hR 60 64 _ _ _ _ _ _ rfl ?_
        refine ⟨L'.K 1412 rfl, jcallP c194 ?_⟩
        rintro o h5 ⟨rfl, m5, F5⟩
        have ts5 := tsM F5 ts
        exact r124 h5 m5 ts5 ts5 ((F5.2.2.1 0 (fun z => z)).trans e0) (ups F F5 (fun k z => ⟨z.1, by have := z.2; omega⟩))
      have r92 : (0 < d ∨ 0 < n) → Run 92 (l258 n (some (.long (jL (n.natAbs : Int)))) none (some (.long (jL (y : Int)))) none) [] h' (0, 0) := by
        intro hpo
        have htm := tmod_abs ((y : Int) * y - d) (4 * (n.natAbs : Int))
        have em : (jL (y : Int) * jL (y : Int) - hJ h' 1412 1) % (jL 4 * jL (n.natAbs : Int)) = jL (((y : Int) * y - d).tmod (4 * (n.natAbs : Int))) := by
          rw [(hMw F).1, jL_mul, jL_sub, jL_mul, jL_mod (by omega) (by omega) (by omega) (by omega)]
        refine hR 60 50 _ _ _ _ _ _ rfl ?_
        refine ⟨L'.K 1412 rfl, ?_, fun c => ?_, fun c => ?_⟩
        · show ¬ jL 4 * jL (n.natAbs : Int) = jL 0
          rw [jL_mul, jL_eq (by omega) (by omega) (by omega) (by omega)]
          omega
        · have c' : (jL (y : Int) * jL (y : Int) - hJ h' 1412 1) % (jL 4 * jL (n.natAbs : Int)) = jL 0 := c
          rw [em, jL_eq (by omega) (by omega) (by omega) (by omega)] at c'
          refine r116 hpo ?_
          have := Int.dvd_of_tmod_eq_zero c'
          exact this
        · have c' : ¬ (jL (y : Int) * jL (y : Int) - hJ h' 1412 1) % (jL 4 * jL (n.natAbs : Int)) = jL 0 := c
          rw [em, jL_eq (by omega) (by omega) (by omega) (by omega)] at c'
          exact r157 h' hpo (skip (fun z => c' (Int.tmod_eq_zero_of_dvd z.1))) e0 F
      have r79 : Run 79 (l258 n (some (.long (jL (n.natAbs : Int)))) none (some (.long (jL (y : Int)))) none) [] h' (0, 0) := by
        refine hR 60 43 _ _ _ _ _ _ rfl ?_
        refine ⟨L'.K 1412 rfl, fun c => ?_, fun c => ⟨fun c2 => ?_, fun c2 => ?_⟩⟩
        · rw [(hMw F).1] at c
          simp (disch := omega) only [mj_lcm, jI_lt, jI_le, jI_eq, jL_lt, jL_le, jL_eq, jI_lt0, jI_0le, jI_0lt, jI_le0, jI_eq0, jL_eq0, jI_L, jI_add, jI_sub, jI_mul, jI_neg, jL_add, jL_sub, jL_mul, jL_neg, jL_I, jI_div, jI_mod, jL_div, jL_mod] at c
          exact r92 (Or.inl c)
        · rw [(hMw F).1] at c
          simp (disch := omega) only [mj_lcm, jI_lt, jI_le, jI_eq, jL_lt, jL_le, jL_eq, jI_lt0, jI_0le, jI_0lt, jI_le0, jI_eq0, jL_eq0, jI_L, jI_add, jI_sub, jI_mul, jI_neg, jL_add, jL_sub, jL_mul, jL_neg, jL_I, jI_div, jI_mod, jL_div, jL_mod] at c c2
          have e : hitK d n cf y = pp := by
            rw [hpp]
            congr 1
            unfold teY
            rw [if_neg (by omega)]
            omega
          rw [e] at ts
          exact r166 hq h' _ _ _ ts e0 F
        · rw [(hMw F).1] at c
          simp (disch := omega) only [mj_lcm, jI_lt, jI_le, jI_eq, jL_lt, jL_le, jL_eq, jI_lt0, jI_0le, jI_0lt, jI_le0, jI_eq0, jL_eq0, jI_L, jI_add, jI_sub, jI_mul, jI_neg, jL_add, jL_sub, jL_mul, jL_neg, jL_I, jI_div, jI_mod, jL_div, jL_mod] at c c2
          exact r92 (Or.inr (by omega))
      refine hR 60 37 _ _ _ _ _ _ rfl ?_
      refine ⟨fun c => ?_, fun c => r79⟩
      simp (disch := omega) only [mj_lcm, jI_lt, jI_le, jI_eq, jL_lt, jL_le, jL_eq, jI_lt0, jI_0le, jI_0lt, jI_le0, jI_eq0, jL_eq0, jI_L, jI_add, jI_sub, jI_mul, jI_neg, jL_add, jL_sub, jL_mul, jL_neg, jL_I, jI_div, jI_mod, jL_div, jL_mod] at c
      omega
  have r59 : inQ n → ∀ (h' : mj_H) (x2 x3 x4 x5 : Option Value), isTs h' cnt (fun _ => False) → hI h' 1412 0 = jI 0 → FrM iTe jF sTe h h' → Run 59 (l258 n x2 x3 x4 x5) [] h' (0, 0) := by
    intro hq h' x2 x3 x4 x5 ts e0 F
    have ts0 : isTs h' cnt (hitK d n cf 0) := ts.congr (fun k => ⟨fun z => z.elim, fun ⟨y, h1, _⟩ => absurd h1 (by omega)⟩)
    have r65 : ∀ (x4 x5 : Option Value), Run 65 (l258 n (some (.long (jL (n.natAbs : Int)))) none x4 x5) [] h' (0, 0) := by
      intro x4 x5
      refine hR 60 35 _ _ _ _ _ _ rfl ?_
      exact r68 hq (2 * n.natAbs) 0 _ h' (by omega) (Or.inl rfl) ts0 e0 F rfl
    have r64 : ∀ (x2 x3 x4 x5 : Option Value), Run 64 (l258 n x2 x3 x4 x5) [.long (jL (n.natAbs : Int))] h' (0, 0) := by
      intro x2 x3 x4 x5
      refine hR 60 34 _ _ _ _ _ _ rfl ?_
      exact r65 _ _
    have c := ct_196 G (x := n) (by omega) (by omega) h'
    rw [← jI_L hn.1 hn.2] at c
    refine hR 60 31 _ _ _ _ _ _ rfl ?_
    exact jcall c (r64 _ _ _ _)
  have r38 : inQ n → ∀ (p i : Nat) (iI : Int32) (h' : mj_H) (x3 x4 x5 : Option Value), i + p = cnt → (∀ j, j < i → hI h' 1428 j = jI 0) → hI h' 1412 0 = jI 0 → FrM iTe jF sTe h h' → iI = jI i → Run 38 (l258 n (some (.int iI)) x3 x4 x5) [] h' (0, 0) := by
    intro hq p
    induction p with
    | zero =>
      rintro i iI h' x3 x4 x5 hi ts e0 F rfl
      refine hR 60 20 _ _ _ _ _ _ rfl ?_
      refine ⟨(F.lay L).K 1412 rfl, fun c => r59 hq h' _ _ _ _ (fun j hj => ⟨fun z => z.elim, fun _ => ts j (by omega)⟩) e0 F, fun c => ?_⟩
      rw [h7 F] at c
      simp (disch := omega) only [mj_lcm, jI_lt, jI_le, jI_eq, jL_lt, jL_le, jL_eq, jI_lt0, jI_0le, jI_0lt, jI_le0, jI_eq0, jL_eq0, jI_L, jI_add, jI_sub, jI_mul, jI_neg, jL_add, jL_sub, jL_mul, jL_neg, jL_I, jI_div, jI_mod, jL_div, jL_mod] at c
      omega
    | succ p ih =>
      rintro i iI h' x3 x4 x5 hi ts e0 F rfl
      have L' := F.lay L
      have r46 : ∀ (x3 x4 x5 : Option Value), Run 46 (l258 n (some (.int (jI i))) x3 x4 x5) [] h' (0, 0) := by
        intro x3 x4 x5
        refine hR 60 24 _ _ _ _ _ _ rfl ?_
        refine ⟨L'.K 1412 rfl, _, L'.R 1412 33 _ rfl, L'.K 1428 rfl, vin (L'.N 1427 rfl) (by omega), ?_⟩
        rw [nat (by omega)]
        exact ih (i + 1) _ _ _ _ _ (by omega) (aI_ext (X := fun _ => jI 0) ts) e0 (F.aI (c := 1428) (by omega) (by decide) _ _) (by rw [jI_add]; rfl)
      refine hR 60 20 _ _ _ _ _ _ rfl ?_
      refine ⟨L'.K 1412 rfl, fun c => ?_, fun c => r46 _ _ _⟩
      rw [h7 F] at c
      simp (disch := omega) only [mj_lcm, jI_lt, jI_le, jI_eq, jL_lt, jL_le, jL_eq, jI_lt0, jI_0le, jI_0lt, jI_le0, jI_eq0, jL_eq0, jI_L, jI_add, jI_sub, jI_mul, jI_neg, jL_add, jL_sub, jL_mul, jL_neg, jL_I, jI_div, jI_mod, jL_div, jL_mod] at c
      omega
  have F0 : FrM iTe jF sTe h (sI h 1412 0 (jI 0)) := (FrM.refl iTe jF sTe h).fI (k := 0) (by omega) _
  have r36 : inQ n → ∀ (x2 x3 x4 x5 : Option Value), Run 36 (l258 n x2 x3 x4 x5) [] (sI h 1412 0 (jI 0)) (0, 0) := by
    intro hq x2 x3 x4 x5
    refine hR 60 18 _ _ _ _ _ _ rfl ?_
    exact r38 hq cnt 0 _ _ _ _ _ (by omega) (fun j hj => by omega) (sI_at _ _ _ _) F0 rfl
  have c225 := ct_225 G (v := n) (a := -1000000) (b := 1000000) (by omega) (by omega) (by omega) (by omega) (by omega) (by omega) h
  have en : (jI n).toInt64 = jL n := jI_L hn.1 hn.2
  rw [← en] at c225
  have bad : ¬ inQ n → jB 0 1 h (.returned (some (.int (jI 0)))) (sI h 1412 0 (jI 1)) := fun _ => ⟨rfl, sI_at _ _ _ _, FrM.code h _⟩
  refine hR 60 0 _ _ _ _ _ _ rfl ?_
  refine ⟨fun c => ⟨k, k, fun c2 => absurd c2 (cd1 h), fun c2 => ⟨bad, fun z => ?_⟩⟩, fun c => jcall c225 ?_⟩
  · simp (disch := omega) only [mj_lcm, jI_lt, jI_le, jI_eq, jL_lt, jL_le, jL_eq, jI_lt0, jI_0le, jI_0lt, jI_le0, jI_eq0, jL_eq0, jI_L, jI_add, jI_sub, jI_mul, jI_neg, jL_add, jL_sub, jL_mul, jL_neg, jL_I, jI_div, jI_mod, jL_div, jL_mod] at c
    exact absurd c z.1
  · simp (disch := omega) only [mj_lcm, jI_lt, jI_le, jI_eq, jL_lt, jL_le, jL_eq, jI_lt0, jI_0le, jI_0lt, jI_le0, jI_eq0, jL_eq0, jI_L, jI_add, jI_sub, jI_mul, jI_neg, jL_add, jL_sub, jL_mul, jL_neg, jL_I, jI_div, jI_mod, jL_div, jL_mod] at c
    by_cases z : -1000000 ≤ n ∧ n ≤ 1000000
    · rw [if_pos z]
      refine ⟨fun c => absurd c (by decide), fun _ => ⟨k, k, fun c2 => r36 ⟨c, z⟩ _ _ _ _, fun c2 => absurd (cd0 h) c2⟩⟩
    · rw [if_neg z]
      refine ⟨fun _ => ⟨k, k, fun c2 => absurd c2 (cd1 h), fun c2 => ⟨bad, fun y => absurd y.2 z⟩⟩, fun c => absurd rfl c⟩
