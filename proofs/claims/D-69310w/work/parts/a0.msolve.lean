/-! the model: solve -/
abbrev l227 (n : Int) (x2 x3 x4 : Option Value) : mj_Ls := [some (.ref 1412), some (.int (jI n)), x2, x3, x4]
abbrev iSl (k : Nat) : Prop := k = 34 ∨ k = 35
abbrev sSl (c : Nat) : Prop := 1429 ≤ c ∧ c ≤ 1432
/-- what is told is what was found -/
def cpT (h2 h' : mj_H) (a b c e : Nat) : Prop := (∀ t, t < a → hI h' 1429 t = hI h2 1433 t) ∧ (∀ t, t < b → hI h' 1430 t = hI h2 1434 t) ∧ (∀ t, t < c → hI h' 1431 t = hI h2 1435 t) ∧ (∀ t, t < e → hI h' 1432 t = hI h2 1436 t)
/-- a number that may be asked for -/
def inQ (n : Int) : Prop := n ≠ 0 ∧ -1000000 ≤ n ∧ n ≤ 1000000
/-- FormHouseModel.solve(I)I; cuts at [36, 41, 50, 59, 65, 75, 81, 86, 94, 96, 104, 116, 128, 132, 141, 153, 156, 164, 190, 196, 202] -/
def cl_227_5 : List mj_E := (212, false, .ireturn, 1, 0, 0, 0, 0, 0) ::
  []
def cl_227_4 : List mj_E := (164, true, .aload_n 0, 1, 0, 0, 0, 0, 0) ::
  (165, false, .getfield 89, 3, 17, 39, 2, 0, 0) ::
  (168, false, .sipush 512, 3, 0, 0, 0, jI 512, 0) ::
  (171, false, .iload_n 3, 1, 0, 0, 0, 0, 0) ::
  (172, false, .imul, 1, 0, 0, 0, 0, 0) ::
  (173, false, .iload 4, 2, 0, 0, 0, 0, 0) ::
  (175, false, .iadd, 1, 0, 0, 0, 0, 0) ::
  (176, false, .aload_n 0, 1, 0, 0, 0, 0, 0) ::
  (177, false, .getfield 101, 3, 17, 44, 2, 0, 0) ::
  (180, false, .sipush 512, 3, 0, 0, 0, jI 512, 0) ::
  (183, false, .iload_n 3, 1, 0, 0, 0, 0, 0) ::
  (184, false, .imul, 1, 0, 0, 0, 0, 0) ::
  (185, false, .iload 4, 2, 0, 0, 0, 0, 0) ::
  (187, false, .iadd, 1, 0, 0, 0, 0, 0) ::
  (188, false, .iaload, 1, 0, 0, 0, 0, 0) ::
  (189, false, .iastore, 1, 0, 0, 0, 0, 0) ::
  (190, true, .iinc 4 1, 3, 0, 0, 0, jI 1, 0) ::
  (193, false, .goto (-37), 3, 93, 0, 0, 0, 0) ::
  (196, true, .iinc 3 1, 3, 0, 0, 0, jI 1, 0) ::
  (199, false, .goto (-67), 3, 76, 0, 0, 0, 0) ::
  (202, true, .iinc 2 1, 3, 0, 0, 0, jI 1, 0) ::
  (205, false, .goto (-109), 3, 52, 0, 0, 0, 0) ::
  (208, false, .aload_n 0, 1, 0, 0, 0, 0, 0) ::
  (209, false, .getfield 288, 3, 17, 35, 0, 0, 0) ::
  cl_227_5
def cl_227_3 : List mj_E := (128, true, .iconst 2, 1, 0, 0, 0, jI 2, 0) ::
  (129, false, .iload_n 2, 1, 0, 0, 0, 0, 0) ::
  (130, false, .imul, 1, 0, 0, 0, 0, 0) ::
  (131, false, .istore_n 3, 1, 0, 0, 0, 0, 0) ::
  (132, true, .iload_n 3, 1, 0, 0, 0, 0, 0) ::
  (133, false, .iconst 2, 1, 0, 0, 0, jI 2, 0) ::
  (134, false, .iload_n 2, 1, 0, 0, 0, 0, 0) ::
  (135, false, .imul, 1, 0, 0, 0, 0, 0) ::
  (136, false, .iconst 2, 1, 0, 0, 0, jI 2, 0) ::
  (137, false, .iadd, 1, 0, 0, 0, 0, 0) ::
  (138, false, .if_icmp .ge 64, 3, 116, 0, 0, 0, 0) ::
  (141, true, .aload_n 0, 1, 0, 0, 0, 0, 0) ::
  (142, false, .getfield 85, 3, 17, 38, 2, 0, 0) ::
  (145, false, .iload_n 3, 1, 0, 0, 0, 0, 0) ::
  (146, false, .aload_n 0, 1, 0, 0, 0, 0, 0) ::
  (147, false, .getfield 98, 3, 17, 43, 2, 0, 0) ::
  (150, false, .iload_n 3, 1, 0, 0, 0, 0, 0) ::
  (151, false, .iaload, 1, 0, 0, 0, 0, 0) ::
  (152, false, .iastore, 1, 0, 0, 0, 0, 0) ::
  (153, true, .iconst 0, 1, 0, 0, 0, jI 0, 0) ::
  (154, false, .istore 4, 2, 0, 0, 0, 0, 0) ::
  (156, true, .iload 4, 2, 0, 0, 0, 0, 0) ::
  (158, false, .sipush 512, 3, 0, 0, 0, jI 512, 0) ::
  (161, false, .if_icmp .ge 35, 3, 114, 0, 0, 0, 0) ::
  cl_227_4
def cl_227_2 : List mj_E := (88, false, .getfield 370, 3, 17, 40, 0, 0, 0) ::
  (91, false, .putfield 288, 3, 17, 35, 0, 0, 0) ::
  (94, true, .iconst 0, 1, 0, 0, 0, jI 0, 0) ::
  (95, false, .istore_n 2, 1, 0, 0, 0, 0, 0) ::
  (96, true, .iload_n 2, 1, 0, 0, 0, 0, 0) ::
  (97, false, .aload_n 0, 1, 0, 0, 0, 0, 0) ::
  (98, false, .getfield 370, 3, 17, 40, 0, 0, 0) ::
  (101, false, .if_icmp .ge 107, 3, 118, 0, 0, 0, 0) ::
  (104, true, .aload_n 0, 1, 0, 0, 0, 0, 0) ::
  (105, false, .getfield 79, 3, 17, 36, 2, 0, 0) ::
  (108, false, .iload_n 2, 1, 0, 0, 0, 0, 0) ::
  (109, false, .aload_n 0, 1, 0, 0, 0, 0, 0) ::
  (110, false, .getfield 92, 3, 17, 41, 2, 0, 0) ::
  (113, false, .iload_n 2, 1, 0, 0, 0, 0, 0) ::
  (114, false, .iaload, 1, 0, 0, 0, 0, 0) ::
  (115, false, .iastore, 1, 0, 0, 0, 0, 0) ::
  (116, true, .aload_n 0, 1, 0, 0, 0, 0, 0) ::
  (117, false, .getfield 82, 3, 17, 37, 2, 0, 0) ::
  (120, false, .iload_n 2, 1, 0, 0, 0, 0, 0) ::
  (121, false, .aload_n 0, 1, 0, 0, 0, 0, 0) ::
  (122, false, .getfield 95, 3, 17, 42, 2, 0, 0) ::
  (125, false, .iload_n 2, 1, 0, 0, 0, 0, 0) ::
  (126, false, .iaload, 1, 0, 0, 0, 0, 0) ::
  (127, false, .iastore, 1, 0, 0, 0, 0, 0) ::
  cl_227_3
def cl_227_1 : List mj_E := (46, false, .lcmp, 1, 0, 0, 0, 0, 0) ::
  (47, false, .ifCond .ge 12, 3, 31, 0, 0, 0, 0) ::
  (50, true, .aload_n 0, 1, 0, 0, 0, 0, 0) ::
  (51, false, .iload_n 1, 1, 0, 0, 0, 0, 0) ::
  (52, false, .i2l, 1, 0, 0, 0, 0, 0) ::
  (53, false, .invokevirtual 423, 3, 228, 1, 17, 0, 0) ::
  (56, false, .goto 9, 3, 35, 0, 0, 0, 0) ::
  (59, true, .aload_n 0, 1, 0, 0, 0, 0, 0) ::
  (60, false, .iload_n 1, 1, 0, 0, 0, 0, 0) ::
  (61, false, .i2l, 1, 0, 0, 0, 0, 0) ::
  (62, false, .invokevirtual 426, 3, 242, 1, 17, 0, 0) ::
  (65, true, .aload_n 0, 1, 0, 0, 0, 0, 0) ::
  (66, false, .getfield 370, 3, 17, 40, 0, 0, 0) ::
  (69, false, .sipush 256, 3, 0, 0, 0, jI 256, 0) ::
  (72, false, .if_icmp .le 9, 3, 43, 0, 0, 0, 0) ::
  (75, true, .aload_n 0, 1, 0, 0, 0, 0, 0) ::
  (76, false, .iconst 2, 1, 0, 0, 0, jI 2, 0) ::
  (77, false, .invokevirtual 429, 3, 257, 1, 17, 0, 0) ::
  (80, false, .ireturn, 1, 0, 0, 0, 0, 0) ::
  (81, true, .aload_n 0, 1, 0, 0, 0, 0, 0) ::
  (82, false, .iload_n 1, 1, 0, 0, 0, 0, 0) ::
  (83, false, .putfield 291, 3, 17, 34, 0, 0, 0) ::
  (86, true, .aload_n 0, 1, 0, 0, 0, 0, 0) ::
  (87, false, .aload_n 0, 1, 0, 0, 0, 0, 0) ::
  cl_227_2
def cl_227_0 : List mj_E := (0, false, .aload_n 0, 1, 0, 0, 0, 0, 0) ::
  (1, false, .iload_n 1, 1, 0, 0, 0, 0, 0) ::
  (2, false, .ifCond .eq 17, 3, 9, 0, 0, 0, 0) ::
  (5, false, .iload_n 1, 1, 0, 0, 0, 0, 0) ::
  (6, false, .i2l, 1, 0, 0, 0, 0, 0) ::
  (7, false, .ldc2_w 419, 3, 0, 0, 0, 0, jL (-1000000)) ::
  (10, false, .ldc2_w 421, 3, 0, 0, 0, 0, jL 1000000) ::
  (13, false, .invokestatic 244, 3, 225, 3, 0, 0, 0) ::
  (16, false, .ifCond .ne 7, 3, 11, 0, 0, 0, 0) ::
  (19, false, .iconst 1, 1, 0, 0, 0, jI 1, 0) ::
  (20, false, .goto 4, 3, 12, 0, 0, 0, 0) ::
  (23, false, .iconst 0, 1, 0, 0, 0, jI 0, 0) ::
  (24, false, .putfield 120, 3, 17, 0, 0, 0, 0) ::
  (27, false, .aload_n 0, 1, 0, 0, 0, 0, 0) ::
  (28, false, .getfield 120, 3, 17, 0, 0, 0, 0) ::
  (31, false, .ifCond .le 5, 3, 18, 0, 0, 0, 0) ::
  (34, false, .iconst 0, 1, 0, 0, 0, jI 0, 0) ::
  (35, false, .ireturn, 1, 0, 0, 0, 0, 0) ::
  (36, true, .aload_n 0, 1, 0, 0, 0, 0, 0) ::
  (37, false, .iconst 0, 1, 0, 0, 0, jI 0, 0) ::
  (38, false, .putfield 370, 3, 17, 40, 0, 0, 0) ::
  (41, true, .aload_n 0, 1, 0, 0, 0, 0, 0) ::
  (42, false, .getfield 9, 3, 17, 1, 1, 0, 0) ::
  (45, false, .lconst 0, 1, 0, 0, 0, 0, jL 0) ::
  cl_227_1
def cd_227 : List mj_E := cl_227_0
def cx_227 : mj_X := (1, [], [])
theorem tb_227 : mj_tab (mj_mt 227) cx_227 cd_227 mj_mh [(0, 0, 0), (0, 0, 0), (0, 0, 0), (0, 0, 0), (0, 0, 0), (8057, 0, 0), (8058, 0, 0), (8044, 0, 0), (0, 0, 0), (0, 0, 0), (0, 0, 0), (0, 0, 0), (7099, 0, 0), (0, 0, 0), (7099, 0, 0), (0, 0, 0), (0, 0, 0), (0, 0, 0), (0, 0, 0), (0, 0, 0), (7139, 0, 0), (0, 0, 0), (7100, 0, 0), (0, 0, 0), (0, 0, 0), (0, 0, 0), (0, 0, 0), (0, 0, 0), (0, 0, 0), (8059, 0, 0), (0, 0, 0), (0, 0, 0), (0, 0, 0), (0, 0, 0), (8117, 0, 0), (0, 0, 0), (7139, 0, 0), (0, 0, 0), (0, 0, 0), (0, 0, 0), (0, 0, 0), (8177, 0, 0), (0, 0, 0), (0, 0, 0), (0, 0, 0), (7133, 0, 0), (0, 0, 0), (0, 0, 0), (7139, 0, 0), (7134, 0, 0), (0, 0, 0), (0, 0, 0), (0, 0, 0), (0, 0, 0), (7139, 0, 0), (0, 0, 0), (0, 0, 0), (7135, 0, 0), (0, 0, 0), (0, 0, 0), (7140, 0, 0), (0, 0, 0), (0, 0, 0), (0, 0, 0), (0, 0, 0), (7136, 0, 0), (0, 0, 0), (0, 0, 0), (7141, 0, 0), (0, 0, 0), (0, 0, 0), (0, 0, 0), (0, 0, 0), (0, 0, 0), (0, 0, 0), (0, 0, 0), (0, 0, 0), (0, 0, 0), (0, 0, 0), (0, 0, 0), (0, 0, 0), (0, 0, 0), (0, 0, 0), (0, 0, 0), (7137, 0, 0), (0, 0, 0), (0, 0, 0), (7142, 0, 0), (0, 0, 0), (0, 0, 0), (0, 0, 0), (0, 0, 0), (0, 0, 0), (0, 0, 0), (0, 0, 0), (0, 0, 0), (0, 0, 0), (7138, 0, 0), (0, 0, 0), (0, 0, 0), (0, 0, 0), (0, 0, 0), (0, 0, 0), (0, 0, 0), (7143, 0, 0), (0, 0, 0), (0, 0, 0), (0, 0, 0), (0, 0, 0), (0, 0, 0), (0, 0, 0), (0, 0, 0), (0, 0, 0), (0, 0, 0), (0, 0, 0), (0, 0, 0), (0, 0, 0), (0, 0, 0), (0, 0, 0), (7134, 0, 0), (0, 0, 0)] = true := mj_tab_f (by decide +kernel)
theorem ct_227 (G : mj_G) {h : mj_H} (L : isLam h) {d w : Int} (hw : isMw h d w) (hd : -1099511627776 < d ∧ d < 1099511627776) {n : Int} (hn : -2147483648 ≤ n ∧ n < 2147483648) {P : mj_Q} (hb : inQ n → d < 0 → mj_Ct G (mj_mt 228) 0 0 [.ref 1412, .long (jL n)] (sI (sI h 1412 0 (jI 0)) 1412 40 (jI 0)) P) (ha : inQ n → ¬ d < 0 → mj_Ct G (mj_mt 242) 0 0 [.ref 1412, .long (jL n)] (sI (sI h 1412 0 (jI 0)) 1412 40 (jI 0)) P) (hP : ∀ o h', P o h' → o = .returned none ∧ isLam h' ∧ ∃ q : Nat, q < 2147483648 ∧ hI h' 1412 40 = jI q) : mj_Ct G (mj_mt 227) 0 0 [.ref 1412, .int (jI n)] h (fun o h' => (¬ inQ n → jB 0 1 h o h') ∧ (inQ n → ∃ (h2 : mj_H) (q : Nat), P (.returned none) h2 ∧ hI h2 1412 40 = jI q ∧ (256 < q → o = .returned (some (.int (jI 0))) ∧ h' = sI h2 1412 0 (jI 2)) ∧ (q ≤ 256 → o = .returned (some (.int (jI q))) ∧ hI h' 1412 34 = jI n ∧ hI h' 1412 35 = jI q ∧ cpT h2 h' q q (2 * q) (1024 * q) ∧ FrM iSl noT sSl h2 h'))) := by
  have k := L.K 1412 rfl
  refine mj_Ct_of mj_ok tb_227 rfl rfl (Nat.le_of_ble_eq_true rfl) (fun Run hR => ?_)
  have r81 : inQ n → ∀ (h2 : mj_H) (q : Nat) (x2 x3 x4 : Option Value), q ≤ 256 → P (.returned none) h2 → isLam h2 → hI h2 1412 40 = jI q → Run 81 (l227 n x2 x3 x4) [] h2 (0, 0) := by
    intro hq h2 q x2 x3 x4 hq2 p2 L2 e40
    obtain ⟨h3, hh3⟩ : ∃ h3, h3 = sI (sI h2 1412 34 (jI n)) 1412 35 (jI q) := ⟨_, rfl⟩
    have F3 : FrM iSl noT sSl h2 h3 := by
      rw [hh3]
      exact ((FrM.refl iSl noT sSl h2).fI (k := 34) (by omega) _).fI (k := 35) (by omega) _
    have e34 : hI h3 1412 34 = jI n := by
      rw [hh3]
      rfl
    have e35 : hI h3 1412 35 = jI q := by
      rw [hh3]
      rfl
    have up : ∀ {h' : mj_H}, FrM noT noT sSl h3 h' → FrM iSl noT sSl h2 h' := fun F => F3.trans (F.mono (fun _ z => z.elim) (fun _ z => z) (fun _ z => z))
    have f40 : ∀ {h' : mj_H}, FrM noT noT sSl h3 h' → hI h' 1412 40 = jI q := fun F => ((up F).2.2.1 40 (by omega)).trans e40
    have src : ∀ {h' : mj_H} {c : Nat} (_ : 1433 ≤ c ∧ c ≤ 1436) (t : Nat), FrM noT noT sSl h3 h' → hI h' c t = hI h2 c t := fun hc t F => (up F).I (by omega) (by omega) t
    have nat : ∀ {k : Nat}, k < 262144 → (jI (k : Int)).toNatClampNeg = k := by
      intro k hk
      rw [jI_nat (by omega) (by omega), Int.toNat_natCast]
    have vin : ∀ {k N M : Nat}, N = M → k < M → M ≤ 262144 → vp_in (jI (k : Int)) N := by
      rintro k N M rfl hk hM
      exact jI_in (by omega) (by omega) (by omega)
    have r96 : ∀ (p k : Nat) (kI : Int32) (h' : mj_H) (x3 x4 : Option Value), k + p = q → cpT h2 h' k k (2 * k) (1024 * k) → FrM noT noT sSl h3 h' → kI = jI k → Run 96 (l227 n (some (.int kI)) x3 x4) [] h' (0, 0) := by
      intro p
      induction p with
      | zero =>
        rintro k kI h' x3 x4 hk hc F rfl
        have ek : k = q := by omega
        subst ek
        have L' := (up F).lay L2
        refine hR 60 52 _ _ _ _ _ _ rfl ?_
        refine ⟨L'.K 1412 rfl, fun c => ⟨L'.K 1412 rfl, fun z => absurd hq z, fun _ => ⟨h2, k, p2, e40, fun z => absurd z (by omega), fun _ => ⟨?_, (F.2.2.1 34 (fun z => z)).trans e34, (F.2.2.1 35 (fun z => z)).trans e35, hc, up F⟩⟩⟩, fun c => ?_⟩
        · rw [F.2.2.1 35 (fun z => z), e35]
        · rw [f40 F] at c
          simp (disch := omega) only [mj_lcm, jI_lt, jI_le, jI_eq, jL_lt, jL_le, jL_eq, jI_lt0, jI_0le, jI_0lt, jI_le0, jI_eq0, jL_eq0, jI_L, jI_add, jI_sub, jI_mul, jI_neg, jL_add, jL_sub, jL_mul, jL_neg, jL_I, jI_div, jI_mod, jL_div, jL_mod] at c
          omega
      | succ p ih =>
        rintro k kI h' x3 x4 hk hc F rfl
        have r202 : ∀ (h4 : mj_H) (x3 x4 : Option Value), cpT h2 h4 (k + 1) (k + 1) (2 * (k + 1)) (1024 * (k + 1)) → FrM noT noT sSl h3 h4 → Run 202 (l227 n (some (.int (jI k))) x3 x4) [] h4 (0, 0) := by
          intro h4 x3 x4 hc4 F4
          refine hR 60 116 _ _ _ _ _ _ rfl ?_
          exact ih (k + 1) _ h4 _ _ (by omega) hc4 F4 (by rw [jI_add]; rfl)
        have r132 : ∀ (u i : Nat) (iI : Int32) (h4 : mj_H) (x4 : Option Value), i + u = 2 * k + 2 → cpT h2 h4 (k + 1) (k + 1) i (512 * i) → FrM noT noT sSl h3 h4 → iI = jI i → Run 132 (l227 n (some (.int (jI k))) (some (.int iI)) x4) [] h4 (0, 0) := by
          intro u
          induction u with
          | zero =>
            rintro i iI h4 x4 hi hc4 F4 rfl
            have ei : i = 2 * (k + 1) := by omega
            refine hR 60 76 _ _ _ _ _ _ rfl ?_
            refine ⟨fun c => r202 h4 _ _ ?_ F4, fun c => ?_⟩
            · rw [ei, show 512 * (2 * (k + 1)) = 1024 * (k + 1) by omega] at hc4
              exact hc4
            · simp (disch := omega) only [mj_lcm, jI_lt, jI_le, jI_eq, jL_lt, jL_le, jL_eq, jI_lt0, jI_0le, jI_0lt, jI_le0, jI_eq0, jL_eq0, jI_L, jI_add, jI_sub, jI_mul, jI_neg, jL_add, jL_sub, jL_mul, jL_neg, jL_I, jI_div, jI_mod, jL_div, jL_mod] at c
              omega
          | succ u ihu =>
            rintro i iI h4 x4 hi hc4 F4 rfl
            have r156 : ∀ (v j : Nat) (jJ : Int32) (h5 : mj_H), j + v = 512 → cpT h2 h5 (k + 1) (k + 1) (i + 1) (512 * i + j) → FrM noT noT sSl h3 h5 → jJ = jI j → Run 156 (l227 n (some (.int (jI k))) (some (.int (jI i))) (some (.int jJ))) [] h5 (0, 0) := by
              intro v
              induction v with
              | zero =>
                rintro j jJ h5 hj hc5 F5 rfl
                have r196 : Run 196 (l227 n (some (.int (jI k))) (some (.int (jI i))) (some (.int (jI j)))) [] h5 (0, 0) := by
                  refine hR 60 114 _ _ _ _ _ _ rfl ?_
                  refine ihu (i + 1) _ h5 _ (by omega) ?_ F5 (by rw [jI_add]; rfl)
                  rw [show 512 * (i + 1) = 512 * i + j by omega]
                  exact hc5
                refine hR 60 93 _ _ _ _ _ _ rfl ?_
                refine ⟨fun c => r196, fun c => ?_⟩
                simp (disch := omega) only [mj_lcm, jI_lt, jI_le, jI_eq, jL_lt, jL_le, jL_eq, jI_lt0, jI_0le, jI_0lt, jI_le0, jI_eq0, jL_eq0, jI_L, jI_add, jI_sub, jI_mul, jI_neg, jL_add, jL_sub, jL_mul, jL_neg, jL_I, jI_div, jI_mod, jL_div, jL_mod] at c
                omega
              | succ v ihv =>
                rintro j jJ h5 hj hc5 F5 rfl
                have L5 := (up F5).lay L2
                have ix : jI 512 * jI (i : Int) + jI (j : Int) = jI ((512 * i + j : Nat) : Int) := by
                  rw [jI_mul, jI_add]
                  rfl
                have r190 : ∀ (h6 : mj_H), cpT h2 h6 (k + 1) (k + 1) (i + 1) (512 * i + j + 1) → FrM noT noT sSl h3 h6 → Run 190 (l227 n (some (.int (jI k))) (some (.int (jI i))) (some (.int (jI j)))) [] h6 (0, 0) := by
                  intro h6 hc6 F6
                  refine hR 60 112 _ _ _ _ _ _ rfl ?_
                  exact ihv (j + 1) _ h6 (by omega) hc6 F6 (by rw [jI_add]; rfl)
                have r164 : Run 164 (l227 n (some (.int (jI k))) (some (.int (jI i))) (some (.int (jI j)))) [] h5 (0, 0) := by
                  refine hR 60 96 _ _ _ _ _ _ rfl ?_
                  refine ⟨L5.K 1412 rfl, _, L5.R 1412 39 _ rfl, L5.K 1412 rfl, _, L5.R 1412 44 _ rfl, Or.inl (L5.K 1436 rfl), ?_, L5.K 1432 rfl, ?_, ?_⟩
                  · show vp_in (jI 512 * jI (i : Int) + jI (j : Int)) _
                    rw [ix]
                    exact vin (M := 262144) (L5.N 1435 rfl) (by omega) (by decide)
                  · show vp_in (jI 512 * jI (i : Int) + jI (j : Int)) _
                    rw [ix]
                    exact vin (M := 262144) (L5.N 1431 rfl) (by omega) (by decide)
                  · have e1 : (jI 512 * jI (i : Int) + jI (j : Int)).toNatClampNeg = 512 * i + j := by
                      rw [ix]
                      exact nat (by omega)
                    have e2 : hI h5 1436 (512 * i + j) = hI h2 1436 (512 * i + j) := src (by omega) _ F5
                    have := r190 (sI h5 1432 (512 * i + j) (hI h2 1436 (512 * i + j))) ⟨hc5.1, hc5.2.1, hc5.2.2.1, aI_ext (X := fun t => hI h2 1436 t) hc5.2.2.2⟩ (F5.aI (c := 1432) (by omega) (by decide) _ _)
                    rw [← e2, ← e1] at this
                    exact this
                refine hR 60 93 _ _ _ _ _ _ rfl ?_
                refine ⟨fun c => ?_, fun c => r164⟩
                simp (disch := omega) only [mj_lcm, jI_lt, jI_le, jI_eq, jL_lt, jL_le, jL_eq, jI_lt0, jI_0le, jI_0lt, jI_le0, jI_eq0, jL_eq0, jI_L, jI_add, jI_sub, jI_mul, jI_neg, jL_add, jL_sub, jL_mul, jL_neg, jL_I, jI_div, jI_mod, jL_div, jL_mod] at c
                omega
            have L4 := (up F4).lay L2
            have r153 : ∀ (h5 : mj_H) (x4 : Option Value), cpT h2 h5 (k + 1) (k + 1) (i + 1) (512 * i) → FrM noT noT sSl h3 h5 → Run 153 (l227 n (some (.int (jI k))) (some (.int (jI i))) x4) [] h5 (0, 0) := by
              intro h5 x4 hc5 F5
              refine hR 60 91 _ _ _ _ _ _ rfl ?_
              exact r156 512 0 _ h5 (by omega) hc5 F5 rfl
            have r141 : ∀ (x4 : Option Value), Run 141 (l227 n (some (.int (jI k))) (some (.int (jI i))) x4) [] h4 (0, 0) := by
              intro x4
              refine hR 60 83 _ _ _ _ _ _ rfl ?_
              refine ⟨L4.K 1412 rfl, _, L4.R 1412 38 _ rfl, L4.K 1412 rfl, _, L4.R 1412 43 _ rfl, Or.inl (L4.K 1435 rfl), vin (M := 512) (L4.N 1434 rfl) (by omega) (by decide), L4.K 1431 rfl, vin (M := 512) (L4.N 1430 rfl) (by omega) (by decide), ?_⟩
              rw [nat (by omega), src (by omega) _ F4]
              exact r153 _ _ ⟨hc4.1, hc4.2.1, aI_ext (X := fun t => hI h2 1435 t) hc4.2.2.1, hc4.2.2.2⟩ (F4.aI (c := 1431) (by omega) (by decide) _ _)
            refine hR 60 76 _ _ _ _ _ _ rfl ?_
            refine ⟨fun c => ?_, fun c => r141 _⟩
            simp (disch := omega) only [mj_lcm, jI_lt, jI_le, jI_eq, jL_lt, jL_le, jL_eq, jI_lt0, jI_0le, jI_0lt, jI_le0, jI_eq0, jL_eq0, jI_L, jI_add, jI_sub, jI_mul, jI_neg, jL_add, jL_sub, jL_mul, jL_neg, jL_I, jI_div, jI_mod, jL_div, jL_mod] at c
            omega
        have L' := (up F).lay L2
        have r128 : ∀ (h4 : mj_H) (x3 x4 : Option Value), cpT h2 h4 (k + 1) (k + 1) (2 * k) (1024 * k) → FrM noT noT sSl h3 h4 → Run 128 (l227 n (some (.int (jI k))) x3 x4) [] h4 (0, 0) := by
          intro h4 x3 x4 hc4 F4
          refine hR 60 72 _ _ _ _ _ _ rfl ?_
          refine r132 2 (2 * k) _ h4 _ (by omega) ?_ F4 (by rw [jI_mul]; rfl)
          rw [show 512 * (2 * k) = 1024 * k by omega]
          exact hc4
        have r116 : ∀ (h4 : mj_H) (x3 x4 : Option Value), cpT h2 h4 (k + 1) k (2 * k) (1024 * k) → FrM noT noT sSl h3 h4 → Run 116 (l227 n (some (.int (jI k))) x3 x4) [] h4 (0, 0) := by
          intro h4 x3 x4 hc4 F4
          have L4 := (up F4).lay L2
          refine hR 60 64 _ _ _ _ _ _ rfl ?_
          refine ⟨L4.K 1412 rfl, _, L4.R 1412 37 _ rfl, L4.K 1412 rfl, _, L4.R 1412 42 _ rfl, Or.inl (L4.K 1434 rfl), vin (M := 256) (L4.N 1433 rfl) (by omega) (by decide), L4.K 1430 rfl, vin (M := 256) (L4.N 1429 rfl) (by omega) (by decide), ?_⟩
          rw [nat (by omega), src (by omega) _ F4]
          exact r128 _ _ _ ⟨hc4.1, aI_ext (X := fun t => hI h2 1434 t) hc4.2.1, hc4.2.2.1, hc4.2.2.2⟩ (F4.aI (c := 1430) (by omega) (by decide) _ _)
        have r104 : ∀ (x3 x4 : Option Value), Run 104 (l227 n (some (.int (jI k))) x3 x4) [] h' (0, 0) := by
          intro x3 x4
          refine hR 60 56 _ _ _ _ _ _ rfl ?_
          refine ⟨L'.K 1412 rfl, _, L'.R 1412 36 _ rfl, L'.K 1412 rfl, _, L'.R 1412 41 _ rfl, Or.inl (L'.K 1433 rfl), vin (M := 256) (L'.N 1432 rfl) (by omega) (by decide), L'.K 1429 rfl, vin (M := 256) (L'.N 1428 rfl) (by omega) (by decide), ?_⟩
          rw [nat (by omega), src (by omega) _ F]
          exact r116 _ _ _ ⟨aI_ext (X := fun t => hI h2 1433 t) hc.1, hc.2.1, hc.2.2.1, hc.2.2.2⟩ (F.aI (c := 1429) (by omega) (by decide) _ _)
        refine hR 60 52 _ _ _ _ _ _ rfl ?_
        refine ⟨L'.K 1412 rfl, fun c => ?_, fun c => r104 _ _⟩
        rw [f40 F] at c
        simp (disch := omega) only [mj_lcm, jI_lt, jI_le, jI_eq, jL_lt, jL_le, jL_eq, jI_lt0, jI_0le, jI_0lt, jI_le0, jI_eq0, jL_eq0, jI_L, jI_add, jI_sub, jI_mul, jI_neg, jL_add, jL_sub, jL_mul, jL_neg, jL_I, jI_div, jI_mod, jL_div, jL_mod] at c
        omega
    have r94 : ∀ (x2 x3 x4 : Option Value), Run 94 (l227 n x2 x3 x4) [] h3 (0, 0) := by
      intro x2 x3 x4
      refine hR 60 50 _ _ _ _ _ _ rfl ?_
      exact r96 q 0 _ h3 _ _ (by omega) ⟨fun t ht => absurd ht (by omega), fun t ht => absurd ht (by omega), fun t ht => absurd ht (by omega), fun t ht => absurd ht (by omega)⟩ (FrM.refl _ _ _ h3) rfl
    have r86 : ∀ (x2 x3 x4 : Option Value), Run 86 (l227 n x2 x3 x4) [] (sI h2 1412 34 (jI n)) (0, 0) := by
      intro x2 x3 x4
      have e : hI (sI h2 1412 34 (jI n)) 1412 40 = jI q := e40
      have := r94 x2 x3 x4
      rw [hh3, ← e] at this
      refine hR 60 46 _ _ _ _ _ _ rfl ?_
      exact ⟨L2.K 1412 rfl, L2.K 1412 rfl, this⟩
    refine hR 60 43 _ _ _ _ _ _ rfl ?_
    exact ⟨L2.K 1412 rfl, r86 _ _ _⟩
  have r65 : inQ n → ∀ (h2 : mj_H) (x2 x3 x4 : Option Value), P (.returned none) h2 → Run 65 (l227 n x2 x3 x4) [] h2 (0, 0) := by
    intro hq h2 x2 x3 x4 p2
    obtain ⟨-, L2, q, q1, q2⟩ := hP _ _ p2
    have r75 : 256 < q → ∀ (x2 x3 x4 : Option Value), Run 75 (l227 n x2 x3 x4) [] h2 (0, 0) := by
      intro hq2 x2 x3 x4
      refine hR 60 39 _ _ _ _ _ _ rfl ?_
      refine ⟨L2.K 1412 rfl, jcallW (ct_257 G (L2.K 1412 rfl) _) ?_⟩
      exact ⟨fun z => absurd hq z, fun _ => ⟨h2, q, p2, q2, fun _ => ⟨rfl, rfl⟩, fun z => absurd z (by omega)⟩⟩
    refine hR 60 35 _ _ _ _ _ _ rfl ?_
    refine ⟨L2.K 1412 rfl, fun c => ?_, fun c => ?_⟩
    · rw [q2] at c
      simp (disch := omega) only [mj_lcm, jI_lt, jI_le, jI_eq, jL_lt, jL_le, jL_eq, jI_lt0, jI_0le, jI_0lt, jI_le0, jI_eq0, jL_eq0, jI_L, jI_add, jI_sub, jI_mul, jI_neg, jL_add, jL_sub, jL_mul, jL_neg, jL_I, jI_div, jI_mod, jL_div, jL_mod] at c
      exact r81 hq h2 q _ _ _ (by omega) p2 L2 q2
    · rw [q2] at c
      simp (disch := omega) only [mj_lcm, jI_lt, jI_le, jI_eq, jL_lt, jL_le, jL_eq, jI_lt0, jI_0le, jI_0lt, jI_le0, jI_eq0, jL_eq0, jI_L, jI_add, jI_sub, jI_mul, jI_neg, jL_add, jL_sub, jL_mul, jL_neg, jL_I, jI_div, jI_mod, jL_div, jL_mod] at c
      exact r75 (by omega) _ _ _
  have r41 : inQ n → ∀ (x2 x3 x4 : Option Value), Run 41 (l227 n x2 x3 x4) [] (sI (sI h 1412 0 (jI 0)) 1412 40 (jI 0)) (0, 0) := by
    intro hq x2 x3 x4
    obtain ⟨g, hg⟩ : ∃ g, g = sI (sI h 1412 0 (jI 0)) 1412 40 (jI 0) := ⟨_, rfl⟩
    have kg : hK g 1412 = 27 := by
      rw [hg]
      exact k
    have ed : hJ g 1412 1 = jL d := by
      rw [hg]
      exact hw.1
    rw [← hg] at hb ha ⊢
    have en : (jI n).toInt64 = jL n := jI_L hn.1 hn.2
    have r50 : d < 0 → ∀ (x2 x3 x4 : Option Value), Run 50 (l227 n x2 x3 x4) [] g (0, 0) := by
      intro hd0 x2 x3 x4
      have c := hb hq hd0
      rw [← en] at c
      refine hR 60 26 _ _ _ _ _ _ rfl ?_
      refine ⟨kg, jcallP c ?_⟩
      intro o h' p
      obtain ⟨e, -⟩ := hP o h' p
      subst e
      exact r65 hq h' _ _ _ p
    have r59 : ¬ d < 0 → ∀ (x2 x3 x4 : Option Value), Run 59 (l227 n x2 x3 x4) [] g (0, 0) := by
      intro hd0 x2 x3 x4
      have c := ha hq hd0
      rw [← en] at c
      refine hR 60 31 _ _ _ _ _ _ rfl ?_
      refine ⟨kg, jcallP c ?_⟩
      intro o h' p
      obtain ⟨e, -⟩ := hP o h' p
      subst e
      exact r65 hq h' _ _ _ p
    refine hR 60 21 _ _ _ _ _ _ rfl ?_
    refine ⟨kg, fun c => ?_, fun c => ?_⟩
    · rw [ed] at c
      simp (disch := omega) only [mj_lcm, jI_lt, jI_le, jI_eq, jL_lt, jL_le, jL_eq, jI_lt0, jI_0le, jI_0lt, jI_le0, jI_eq0, jL_eq0, jI_L, jI_add, jI_sub, jI_mul, jI_neg, jL_add, jL_sub, jL_mul, jL_neg, jL_I, jI_div, jI_mod, jL_div, jL_mod] at c
      exact r59 (by omega) _ _ _
    · rw [ed] at c
      simp (disch := omega) only [mj_lcm, jI_lt, jI_le, jI_eq, jL_lt, jL_le, jL_eq, jI_lt0, jI_0le, jI_0lt, jI_le0, jI_eq0, jL_eq0, jI_L, jI_add, jI_sub, jI_mul, jI_neg, jL_add, jL_sub, jL_mul, jL_neg, jL_I, jI_div, jI_mod, jL_div, jL_mod] at c
      exact r50 (by omega) _ _ _
  have r36 : inQ n → ∀ (x2 x3 x4 : Option Value), Run 36 (l227 n x2 x3 x4) [] (sI h 1412 0 (jI 0)) (0, 0) := by
    intro hq x2 x3 x4
    refine hR 60 18 _ _ _ _ _ _ rfl ?_
    exact ⟨k, r41 hq _ _ _⟩
  have c225 := ct_225 G (v := n) (a := -1000000) (b := 1000000) (by omega) (by omega) (by omega) (by omega) (by omega) (by omega) h
  have en : (jI n).toInt64 = jL n := jI_L hn.1 hn.2
  rw [← en] at c225
  have bad : ¬ inQ n → ∀ o h', o = .returned (some (.int (jI 0))) → h' = sI h 1412 0 (jI 1) → (¬ inQ n → jB 0 1 h o h') ∧ (inQ n → ∃ (h2 : mj_H) (q : Nat), P (.returned none) h2 ∧ hI h2 1412 40 = jI q ∧ (256 < q → o = .returned (some (.int (jI 0))) ∧ h' = sI h2 1412 0 (jI 2)) ∧ (q ≤ 256 → o = .returned (some (.int (jI q))) ∧ hI h' 1412 34 = jI n ∧ hI h' 1412 35 = jI q ∧ cpT h2 h' q q (2 * q) (1024 * q) ∧ FrM iSl noT sSl h2 h')) := by
    rintro hq o h' rfl rfl
    exact ⟨fun _ => ⟨rfl, sI_at _ _ _ _, FrM.code h _⟩, fun z => absurd z hq⟩
  refine hR 60 0 _ _ _ _ _ _ rfl ?_
  refine ⟨fun c => ⟨k, k, fun c2 => absurd c2 (cd1 h), fun c2 => bad ?_ _ _ rfl rfl⟩, fun c => jcall c225 ?_⟩
  · simp (disch := omega) only [mj_lcm, jI_lt, jI_le, jI_eq, jL_lt, jL_le, jL_eq, jI_lt0, jI_0le, jI_0lt, jI_le0, jI_eq0, jL_eq0, jI_L, jI_add, jI_sub, jI_mul, jI_neg, jL_add, jL_sub, jL_mul, jL_neg, jL_I, jI_div, jI_mod, jL_div, jL_mod] at c
    exact fun z => z.1 c
  · simp (disch := omega) only [mj_lcm, jI_lt, jI_le, jI_eq, jL_lt, jL_le, jL_eq, jI_lt0, jI_0le, jI_0lt, jI_le0, jI_eq0, jL_eq0, jI_L, jI_add, jI_sub, jI_mul, jI_neg, jL_add, jL_sub, jL_mul, jL_neg, jL_I, jI_div, jI_mod, jL_div, jL_mod] at c
    by_cases z : -1000000 ≤ n ∧ n ≤ 1000000
    · rw [if_pos z]
      refine ⟨fun c => absurd c (by decide), fun _ => ⟨k, k, fun c2 => r36 ⟨c, z⟩ _ _ _, fun c2 => absurd (cd0 h) c2⟩⟩
    · rw [if_neg z]
      refine ⟨fun _ => ⟨k, k, fun c2 => absurd c2 (cd1 h), fun c2 => bad (fun y => z y.2) _ _ rfl rfl⟩, fun c => absurd rfl c⟩
