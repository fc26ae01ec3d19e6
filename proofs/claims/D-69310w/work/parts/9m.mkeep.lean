/-! the model: places in the ring; families are kept -/
def isMq (h : mj_H) (r : Nat) (RA : Nat → pI) : Prop := hI h 1412 27 = jI r ∧ r ≤ 40960 ∧ ∀ i, i < r → hI h 1424 i = jI (RA i).1 ∧ hI h 1425 i = jI (RA i).2 ∧ (-1073741824 < (RA i).1 ∧ (RA i).1 < 1073741824) ∧ (-1073741824 < (RA i).2 ∧ (RA i).2 < 1073741824)
theorem isMq.M {I J S : Nat → Prop} {h h' : mj_H} (f : FrM I J S h h') {r : Nat} {RA : Nat → pI} (a : isMq h r RA) (h1 : ¬ I 27) (h2 : ¬ S 1424 ∧ ¬ S 1425) : isMq h' r RA := ⟨(f.2.2.1 27 h1).trans a.1, a.2.1, fun i hi => ⟨(f.I (by decide) h2.1 _).trans (a.2.2 i hi).1, (f.I (by decide) h2.2 _).trans (a.2.2 i hi).2.1, (a.2.2 i hi).2.2⟩⟩
/-- FormHouseModel.ringPlace()I; cuts at [2, 10, 42] -/
def cl_244_1 : List mj_E := (40, false, .iload_n 1, 1, 0, 0, 0, 0, 0) ::
  (41, false, .ireturn, 1, 0, 0, 0, 0, 0) ::
  (42, true, .iinc 1 1, 3, 0, 0, 0, jI 1, 0) ::
  (45, false, .goto (-43), 3, 2, 0, 0, 0, 0) ::
  (48, false, .iconst (-1), 1, 0, 0, 0, jI (-1), 0) ::
  (49, false, .ireturn, 1, 0, 0, 0, 0, 0) ::
  []
def cl_244_0 : List mj_E := (0, false, .iconst 0, 1, 0, 0, 0, jI 0, 0) ::
  (1, false, .istore_n 1, 1, 0, 0, 0, 0, 0) ::
  (2, true, .iload_n 1, 1, 0, 0, 0, 0, 0) ::
  (3, false, .aload_n 0, 1, 0, 0, 0, 0, 0) ::
  (4, false, .getfield 300, 3, 17, 27, 0, 0, 0) ::
  (7, false, .if_icmp .ge 41, 3, 28, 0, 0, 0, 0) ::
  (10, true, .aload_n 0, 1, 0, 0, 0, 0, 0) ::
  (11, false, .getfield 64, 3, 17, 28, 2, 0, 0) ::
  (14, false, .iload_n 1, 1, 0, 0, 0, 0, 0) ::
  (15, false, .iaload, 1, 0, 0, 0, 0, 0) ::
  (16, false, .i2l, 1, 0, 0, 0, 0, 0) ::
  (17, false, .aload_n 0, 1, 0, 0, 0, 0, 0) ::
  (18, false, .getfield 132, 3, 17, 50, 1, 0, 0) ::
  (21, false, .lcmp, 1, 0, 0, 0, 0, 0) ::
  (22, false, .ifCond .ne 20, 3, 26, 0, 0, 0, 0) ::
  (25, false, .aload_n 0, 1, 0, 0, 0, 0, 0) ::
  (26, false, .getfield 67, 3, 17, 29, 2, 0, 0) ::
  (29, false, .iload_n 1, 1, 0, 0, 0, 0, 0) ::
  (30, false, .iaload, 1, 0, 0, 0, 0, 0) ::
  (31, false, .i2l, 1, 0, 0, 0, 0, 0) ::
  (32, false, .aload_n 0, 1, 0, 0, 0, 0, 0) ::
  (33, false, .getfield 135, 3, 17, 51, 1, 0, 0) ::
  (36, false, .lcmp, 1, 0, 0, 0, 0, 0) ::
  (37, false, .ifCond .ne 5, 3, 26, 0, 0, 0, 0) ::
  cl_244_1
def cd_244 : List mj_E := cl_244_0
def cx_244 : mj_X := (1, [], [])
theorem tb_244 : mj_tab (mj_mt 244) cx_244 cd_244 mj_mh [(0, 0, 0), (0, 0, 0), (0, 0, 0), (0, 0, 0), (7126, 0, 0), (0, 0, 0), (0, 0, 0), (7127, 0, 0), (0, 0, 0), (0, 0, 0), (0, 0, 0), (0, 0, 0), (7149, 0, 0), (0, 0, 0), (0, 0, 0), (0, 0, 0), (7128, 0, 0), (0, 0, 0), (0, 0, 0), (0, 0, 0), (0, 0, 0), (7150, 0, 0), (0, 0, 0), (0, 0, 0), (0, 0, 0), (0, 0, 0), (0, 0, 0), (0, 0, 0), (0, 0, 0), (0, 0, 0)] = true := mj_tab_f (by decide +kernel)
theorem ct_244 (G : mj_G) {h : mj_H} (L : isLam h) {r : Nat} {RA : Nat → pI} (hq : isMq h r RA) {f : Fm} (hf : isMm h f) (hb : (-9223372036854775808 ≤ f.1 ∧ f.1 < 9223372036854775808) ∧ -9223372036854775808 ≤ f.2.1 ∧ f.2.1 < 9223372036854775808) : mj_Ct G (mj_mt 244) 0 0 [.ref 1412] h (fun o h' => h' = h ∧ ((∃ k, k < r ∧ RA k = (f.1, f.2.1) ∧ (∀ i, i < k → RA i ≠ (f.1, f.2.1)) ∧ o = .returned (some (.int (jI (k : Nat))))) ∨ ((∀ i, i < r → RA i ≠ (f.1, f.2.1)) ∧ o = .returned (some (.int (jI (-1))))))) := by
  obtain ⟨q1, q2, q3⟩ := hq
  obtain ⟨f1, f2, f3⟩ := hf
  obtain ⟨b1, b2⟩ := hb
  have z := L.K 1412 rfl
  refine mj_Ct_of mj_ok tb_244 rfl rfl (Nat.le_of_ble_eq_true rfl) (fun Run hR => ?_)
  have loop : ∀ (m k : Nat) (kI : Int32), k + m = r → (∀ i, i < k → RA i ≠ (f.1, f.2.1)) → kI = jI k → Run 2 [some (.ref 1412), some (.int kI)] [] h (0, 0) := by
    intro m
    induction m with
    | zero =>
      rintro k kI hk hn rfl
      refine hR 60 2 _ _ _ _ _ _ rfl ?_
      refine ⟨z, fun c => ⟨rfl, Or.inr ⟨fun i hi => hn i (by omega), rfl⟩⟩, fun c => ?_⟩
      rw [q1] at c
      simp (disch := omega) only [mj_lcm, jI_lt, jI_le, jI_eq, jL_lt, jL_le, jL_eq, jI_lt0, jI_0le, jI_0lt, jI_le0, jI_eq0, jL_eq0, jI_L, jI_add, jI_sub, jI_mul, jI_neg, jL_add, jL_sub, jL_mul, jL_neg, jL_I, jI_div, jI_mod, jL_div, jL_mod] at c
      omega
    | succ m ih =>
      rintro k kI hk hn rfl
      obtain ⟨e1, e2, e3, e4⟩ := q3 k (by omega)
      have nat : (jI (k : Int)).toNatClampNeg = k := by rw [jI_nat (by omega) (by omega), Int.toNat_natCast]
      have v1 : vp_in (jI (k : Int)) (hN h 1424) := by
        rw [show hN h 1424 = 40960 from L.N 1423 rfl]
        exact jI_in (by omega) (by omega) (by omega)
      have v2 : vp_in (jI (k : Int)) (hN h 1425) := by
        rw [show hN h 1425 = 40960 from L.N 1424 rfl]
        exact jI_in (by omega) (by omega) (by omega)
      have g1 : (hI h 1424 (jI (k : Int)).toNatClampNeg).toInt64 = jL (RA k).1 := by rw [nat, e1, jI_L (by omega) (by omega)]
      have g2 : (hI h 1425 (jI (k : Int)).toNatClampNeg).toInt64 = jL (RA k).2 := by rw [nat, e2, jI_L (by omega) (by omega)]
      have r42 : RA k ≠ (f.1, f.2.1) → Run 42 [some (.ref 1412), some (.int (jI k))] [] h (0, 0) := by
        intro hne
        refine hR 60 26 _ _ _ _ _ _ rfl ?_
        refine ih (k + 1) _ (by omega) (fun i hi => ?_) (by rw [jI_add]; rfl)
        by_cases q : i = k
        · rw [q]
          exact hne
        · exact hn i (by omega)
      have r10 : Run 10 [some (.ref 1412), some (.int (jI k))] [] h (0, 0) := by
        refine hR 60 6 _ _ _ _ _ _ rfl ?_
        refine ⟨z, _, L.R 1412 28 _ rfl, Or.inl (L.K 1424 rfl), v1, z, fun c => ⟨z, _, L.R 1412 29 _ rfl, Or.inl (L.K 1425 rfl), v2, z, fun c2 => ?_, fun c2 => ?_⟩, fun c => ?_⟩
        · rw [g1, f1] at c
          rw [g2, f2] at c2
          simp (disch := omega) only [mj_lcm, jI_lt, jI_le, jI_eq, jL_lt, jL_le, jL_eq, jI_lt0, jI_0le, jI_0lt, jI_le0, jI_eq0, jL_eq0, jI_L, jI_add, jI_sub, jI_mul, jI_neg, jL_add, jL_sub, jL_mul, jL_neg, jL_I, jI_div, jI_mod, jL_div, jL_mod] at c c2
          exact ⟨rfl, Or.inl ⟨k, by omega, Prod.ext c c2, hn, rfl⟩⟩
        · rw [g2, f2] at c2
          simp (disch := omega) only [mj_lcm, jI_lt, jI_le, jI_eq, jL_lt, jL_le, jL_eq, jI_lt0, jI_0le, jI_0lt, jI_le0, jI_eq0, jL_eq0, jI_L, jI_add, jI_sub, jI_mul, jI_neg, jL_add, jL_sub, jL_mul, jL_neg, jL_I, jI_div, jI_mod, jL_div, jL_mod] at c2
          exact r42 (fun q => c2 (congrArg Prod.snd q))
        · rw [g1, f1] at c
          simp (disch := omega) only [mj_lcm, jI_lt, jI_le, jI_eq, jL_lt, jL_le, jL_eq, jI_lt0, jI_0le, jI_0lt, jI_le0, jI_eq0, jL_eq0, jI_L, jI_add, jI_sub, jI_mul, jI_neg, jL_add, jL_sub, jL_mul, jL_neg, jL_I, jI_div, jI_mod, jL_div, jL_mod] at c
          exact r42 (fun q => c (congrArg Prod.fst q))
      refine hR 60 2 _ _ _ _ _ _ rfl ?_
      refine ⟨z, fun c => ?_, fun c => r10⟩
      rw [q1] at c
      simp (disch := omega) only [mj_lcm, jI_lt, jI_le, jI_eq, jL_lt, jL_le, jL_eq, jI_lt0, jI_0le, jI_0lt, jI_le0, jI_eq0, jL_eq0, jI_L, jI_add, jI_sub, jI_mul, jI_neg, jL_add, jL_sub, jL_mul, jL_neg, jL_I, jI_div, jI_mod, jL_div, jL_mod] at c
      omega
  refine hR 60 0 _ _ _ _ _ _ rfl ?_
  exact loop r 0 _ (by omega) (fun i hi => by omega) rfl
abbrev Fam : Type := Int × Int × Int × Int
def wdR (h : mj_H) (j : Nat) (v : Int) : Prop := hI h 1435 j = jI v.sign ∧ ∀ k, k < 512 → hI h 1436 (512 * j + k) = jI ((v.natAbs : Int) / pB (2 * k))
/-- the families that are found so far; the first 256 are kept -/
def isNf (h : mj_H) (fs : List Fam) : Prop := hI h 1412 40 = jI fs.length ∧ fs.length ≤ 100000 ∧ ∀ i t, i < 256 → fs[i]? = some t → hI h 1433 i = jI t.1 ∧ hI h 1434 i = jI t.2.1 ∧ wdR h (2 * i) t.2.2.1 ∧ wdR h (2 * i + 1) t.2.2.2
theorem isNf.M {I J S : Nat → Prop} {h h' : mj_H} (f : FrM I J S h h') {fs : List Fam} (a : isNf h fs) (h1 : ¬ I 40) (hs : ∀ x, 1433 ≤ x ∧ x ≤ 1436 → ¬ S x) : isNf h' fs := by
  obtain ⟨a1, a2, a3⟩ := a
  have w : ∀ {j : Nat} {v : Int}, wdR h j v → wdR h' j v := fun q => ⟨(f.I (by decide) (hs 1435 (by omega)) _).trans q.1, fun k hk => (f.I (by decide) (hs 1436 (by omega)) _).trans (q.2 k hk)⟩
  refine ⟨(f.2.2.1 40 h1).trans a1, a2, fun i t hi ht => ?_⟩
  obtain ⟨b1, b2, b3, b4⟩ := a3 i t hi ht
  exact ⟨(f.I (by decide) (hs 1433 (by omega)) _).trans b1, (f.I (by decide) (hs 1434 (by omega)) _).trans b2, w b3, w b4⟩
abbrev i40 (k : Nat) : Prop := k = 40
abbrev sKe (c : Nat) : Prop := (1433 ≤ c ∧ c ≤ 1436) ∨ c = 1440
theorem big_z {n k : Nat} {v : Int} (h0 : 0 ≤ v) (hr : rgD n v) (hn : 0 < n) (hk : n ≤ k) : v / pB k = 0 := by
  have hp := pB_pos (n - 1)
  have e : pB n = pB (n - 1) * 65536 := by
    have := pB_s (n - 1)
    rwa [show n - 1 + 1 = n by omega] at this
  have m : pB n ≤ pB k := pB_mono hk
  have := hr.2
  exact Int.ediv_eq_zero_of_lt h0 (by omega)
abbrev l235 (g b i : Int32) (x4 x5 x6 : Option Value) : mj_Ls := [some (.ref 1412), some (.int g), some (.int b), some (.int i), x4, x5, x6]
/-- FormHouseModel.keep(II)V; cuts at [10, 20, 30, 32, 37, 78, 79, 86, 89, 97, 121, 123, 151, 153, 181, 187, 193] -/
def cl_235_4 : List mj_E := (162, false, .getfield 370, 3, 17, 40, 0, 0, 0) ::
  (165, false, .imul, 1, 0, 0, 0, 0, 0) ::
  (166, false, .iload_n 3, 1, 0, 0, 0, 0, 0) ::
  (167, false, .iadd, 1, 0, 0, 0, 0, 0) ::
  (168, false, .imul, 1, 0, 0, 0, 0, 0) ::
  (169, false, .iload 4, 2, 0, 0, 0, 0, 0) ::
  (171, false, .iadd, 1, 0, 0, 0, 0, 0) ::
  (172, false, .iload 5, 2, 0, 0, 0, 0, 0) ::
  (174, false, .iload 6, 2, 0, 0, 0, 0, 0) ::
  (176, false, .bipush 16, 2, 0, 0, 0, jI 16, 0) ::
  (178, false, .ishl, 1, 0, 0, 0, 0, 0) ::
  (179, false, .ior, 1, 0, 0, 0, 0, 0) ::
  (180, false, .iastore, 1, 0, 0, 0, 0, 0) ::
  (181, true, .iinc 4 1, 3, 0, 0, 0, jI 1, 0) ::
  (184, false, .goto (-95), 3, 54, 0, 0, 0, 0) ::
  (187, true, .iinc 3 1, 3, 0, 0, 0, jI 1, 0) ::
  (190, false, .goto (-158), 3, 18, 0, 0, 0, 0) ::
  (193, true, .aload_n 0, 1, 0, 0, 0, 0, 0) ::
  (194, false, .dup, 1, 0, 0, 0, 0, 0) ::
  (195, false, .getfield 370, 3, 17, 40, 0, 0, 0) ::
  (198, false, .iconst 1, 1, 0, 0, 0, jI 1, 0) ::
  (199, false, .iadd, 1, 0, 0, 0, 0, 0) ::
  (200, false, .putfield 370, 3, 17, 40, 0, 0, 0) ::
  (203, false, .return_, 1, 0, 0, 0, 0, 0) ::
  []
def cl_235_3 : List mj_E := (123, true, .iconst 2, 1, 0, 0, 0, jI 2, 0) ::
  (124, false, .iload 4, 2, 0, 0, 0, 0, 0) ::
  (126, false, .imul, 1, 0, 0, 0, 0, 0) ::
  (127, false, .iconst 1, 1, 0, 0, 0, jI 1, 0) ::
  (128, false, .iadd, 1, 0, 0, 0, 0, 0) ::
  (129, false, .aload_n 0, 1, 0, 0, 0, 0, 0) ::
  (130, false, .getfield 313, 3, 17, 48, 0, 0, 0) ::
  (133, false, .if_icmp .ge 17, 3, 89, 0, 0, 0, 0) ::
  (136, false, .aload_n 0, 1, 0, 0, 0, 0, 0) ::
  (137, false, .iconst 4, 1, 0, 0, 0, jI 4, 0) ::
  (138, false, .iconst 2, 1, 0, 0, 0, jI 2, 0) ::
  (139, false, .iload 4, 2, 0, 0, 0, 0, 0) ::
  (141, false, .imul, 1, 0, 0, 0, 0, 0) ::
  (142, false, .iconst 1, 1, 0, 0, 0, jI 1, 0) ::
  (143, false, .iadd, 1, 0, 0, 0, 0, 0) ::
  (144, false, .invokevirtual 316, 3, 237, 2, 17, 0, 0) ::
  (147, false, .goto 4, 3, 90, 0, 0, 0, 0) ::
  (150, false, .iconst 0, 1, 0, 0, 0, jI 0, 0) ::
  (151, true, .istore 6, 2, 0, 0, 0, 0, 0) ::
  (153, true, .aload_n 0, 1, 0, 0, 0, 0, 0) ::
  (154, false, .getfield 101, 3, 17, 44, 2, 0, 0) ::
  (157, false, .sipush 512, 3, 0, 0, 0, jI 512, 0) ::
  (160, false, .iconst 2, 1, 0, 0, 0, jI 2, 0) ::
  (161, false, .aload_n 0, 1, 0, 0, 0, 0, 0) ::
  cl_235_4
def cl_235_2 : List mj_E := (80, false, .iconst 2, 1, 0, 0, 0, jI 2, 0) ::
  (81, false, .iload_n 3, 1, 0, 0, 0, 0, 0) ::
  (82, false, .iadd, 1, 0, 0, 0, 0, 0) ::
  (83, false, .invokevirtual 372, 3, 239, 1, 17, 0, 0) ::
  (86, true, .iconst 0, 1, 0, 0, 0, jI 0, 0) ::
  (87, false, .istore 4, 2, 0, 0, 0, 0, 0) ::
  (89, true, .iload 4, 2, 0, 0, 0, 0, 0) ::
  (91, false, .sipush 512, 3, 0, 0, 0, jI 512, 0) ::
  (94, false, .if_icmp .ge 93, 3, 111, 0, 0, 0, 0) ::
  (97, true, .iconst 2, 1, 0, 0, 0, jI 2, 0) ::
  (98, false, .iload 4, 2, 0, 0, 0, 0, 0) ::
  (100, false, .imul, 1, 0, 0, 0, 0, 0) ::
  (101, false, .aload_n 0, 1, 0, 0, 0, 0, 0) ::
  (102, false, .getfield 313, 3, 17, 48, 0, 0, 0) ::
  (105, false, .if_icmp .ge 15, 3, 70, 0, 0, 0, 0) ::
  (108, false, .aload_n 0, 1, 0, 0, 0, 0, 0) ::
  (109, false, .iconst 4, 1, 0, 0, 0, jI 4, 0) ::
  (110, false, .iconst 2, 1, 0, 0, 0, jI 2, 0) ::
  (111, false, .iload 4, 2, 0, 0, 0, 0, 0) ::
  (113, false, .imul, 1, 0, 0, 0, 0, 0) ::
  (114, false, .invokevirtual 316, 3, 237, 2, 17, 0, 0) ::
  (117, false, .goto 4, 3, 71, 0, 0, 0, 0) ::
  (120, false, .iconst 0, 1, 0, 0, 0, jI 0, 0) ::
  (121, true, .istore 5, 2, 0, 0, 0, 0, 0) ::
  cl_235_3
def cl_235_1 : List mj_E := (42, false, .aload_n 0, 1, 0, 0, 0, 0, 0) ::
  (43, false, .getfield 370, 3, 17, 40, 0, 0, 0) ::
  (46, false, .imul, 1, 0, 0, 0, 0, 0) ::
  (47, false, .iload_n 3, 1, 0, 0, 0, 0, 0) ::
  (48, false, .iadd, 1, 0, 0, 0, 0, 0) ::
  (49, false, .aload_n 0, 1, 0, 0, 0, 0, 0) ::
  (50, false, .iconst 2, 1, 0, 0, 0, jI 2, 0) ::
  (51, false, .iload_n 3, 1, 0, 0, 0, 0, 0) ::
  (52, false, .iadd, 1, 0, 0, 0, 0, 0) ::
  (53, false, .invokevirtual 342, 3, 236, 1, 17, 0, 0) ::
  (56, false, .ifCond .eq 7, 3, 37, 0, 0, 0, 0) ::
  (59, false, .iconst 0, 1, 0, 0, 0, jI 0, 0) ::
  (60, false, .goto 18, 3, 46, 0, 0, 0, 0) ::
  (63, false, .aload_n 0, 1, 0, 0, 0, 0, 0) ::
  (64, false, .iconst 2, 1, 0, 0, 0, jI 2, 0) ::
  (65, false, .iload_n 3, 1, 0, 0, 0, 0, 0) ::
  (66, false, .iadd, 1, 0, 0, 0, 0, 0) ::
  (67, false, .invokevirtual 322, 3, 238, 1, 17, 0, 0) ::
  (70, false, .ifCond .eq 7, 3, 45, 0, 0, 0, 0) ::
  (73, false, .iconst (-1), 1, 0, 0, 0, jI (-1), 0) ::
  (74, false, .goto 4, 3, 46, 0, 0, 0, 0) ::
  (77, false, .iconst 1, 1, 0, 0, 0, jI 1, 0) ::
  (78, true, .iastore, 1, 0, 0, 0, 0, 0) ::
  (79, true, .aload_n 0, 1, 0, 0, 0, 0, 0) ::
  cl_235_2
def cl_235_0 : List mj_E := (0, false, .aload_n 0, 1, 0, 0, 0, 0, 0) ::
  (1, false, .getfield 370, 3, 17, 40, 0, 0, 0) ::
  (4, false, .sipush 256, 3, 0, 0, 0, jI 256, 0) ::
  (7, false, .if_icmp .ge 186, 3, 113, 0, 0, 0, 0) ::
  (10, true, .aload_n 0, 1, 0, 0, 0, 0, 0) ::
  (11, false, .getfield 92, 3, 17, 41, 2, 0, 0) ::
  (14, false, .aload_n 0, 1, 0, 0, 0, 0, 0) ::
  (15, false, .getfield 370, 3, 17, 40, 0, 0, 0) ::
  (18, false, .iload_n 1, 1, 0, 0, 0, 0, 0) ::
  (19, false, .iastore, 1, 0, 0, 0, 0, 0) ::
  (20, true, .aload_n 0, 1, 0, 0, 0, 0, 0) ::
  (21, false, .getfield 95, 3, 17, 42, 2, 0, 0) ::
  (24, false, .aload_n 0, 1, 0, 0, 0, 0, 0) ::
  (25, false, .getfield 370, 3, 17, 40, 0, 0, 0) ::
  (28, false, .iload_n 2, 1, 0, 0, 0, 0, 0) ::
  (29, false, .iastore, 1, 0, 0, 0, 0, 0) ::
  (30, true, .iconst 0, 1, 0, 0, 0, jI 0, 0) ::
  (31, false, .istore_n 3, 1, 0, 0, 0, 0, 0) ::
  (32, true, .iload_n 3, 1, 0, 0, 0, 0, 0) ::
  (33, false, .iconst 2, 1, 0, 0, 0, jI 2, 0) ::
  (34, false, .if_icmp .ge 159, 3, 113, 0, 0, 0, 0) ::
  (37, true, .aload_n 0, 1, 0, 0, 0, 0, 0) ::
  (38, false, .getfield 98, 3, 17, 43, 2, 0, 0) ::
  (41, false, .iconst 2, 1, 0, 0, 0, jI 2, 0) ::
  cl_235_1
def cd_235 : List mj_E := cl_235_0
def cx_235 : mj_X := (0, [], [])
theorem tb_235 : mj_tab (mj_mt 235) cx_235 cd_235 mj_mh [(0, 0, 0), (7139, 0, 0), (0, 0, 0), (0, 0, 0), (0, 0, 0), (7140, 0, 0), (0, 0, 0), (7139, 0, 0), (0, 0, 0), (0, 0, 0), (0, 0, 0), (7141, 0, 0), (0, 0, 0), (7139, 0, 0), (0, 0, 0), (0, 0, 0), (0, 0, 0), (0, 0, 0), (0, 0, 0), (0, 0, 0), (0, 0, 0), (0, 0, 0), (7142, 0, 0), (0, 0, 0), (0, 0, 0), (7139, 0, 0), (0, 0, 0), (0, 0, 0), (0, 0, 0), (0, 0, 0), (0, 0, 0), (0, 0, 0), (0, 0, 0), (8092, 0, 0), (0, 0, 0), (0, 0, 0), (0, 0, 0), (0, 0, 0), (0, 0, 0), (0, 0, 0), (0, 0, 0), (8100, 0, 0), (0, 0, 0), (0, 0, 0), (0, 0, 0), (0, 0, 0), (0, 0, 0), (0, 0, 0), (0, 0, 0), (0, 0, 0), (0, 0, 0), (8104, 0, 0), (0, 0, 0), (0, 0, 0), (0, 0, 0), (0, 0, 0), (0, 0, 0), (0, 0, 0), (0, 0, 0), (0, 0, 0), (0, 0, 0), (7147, 0, 0), (0, 0, 0), (0, 0, 0), (0, 0, 0), (0, 0, 0), (0, 0, 0), (0, 0, 0), (8096, 0, 0), (0, 0, 0), (0, 0, 0), (0, 0, 0), (0, 0, 0), (0, 0, 0), (0, 0, 0), (0, 0, 0), (0, 0, 0), (0, 0, 0), (7147, 0, 0), (0, 0, 0), (0, 0, 0), (0, 0, 0), (0, 0, 0), (0, 0, 0), (0, 0, 0), (0, 0, 0), (0, 0, 0), (8096, 0, 0), (0, 0, 0), (0, 0, 0), (0, 0, 0), (0, 0, 0), (7143, 0, 0), (0, 0, 0), (0, 0, 0), (0, 0, 0), (7139, 0, 0), (0, 0, 0), (0, 0, 0), (0, 0, 0), (0, 0, 0), (0, 0, 0), (0, 0, 0), (0, 0, 0), (0, 0, 0), (0, 0, 0), (0, 0, 0), (0, 0, 0), (0, 0, 0), (0, 0, 0), (0, 0, 0), (0, 0, 0), (0, 0, 0), (0, 0, 0), (0, 0, 0), (7139, 0, 0), (0, 0, 0), (0, 0, 0), (7139, 0, 0), (0, 0, 0)] = true := mj_tab_f (by decide +kernel)
theorem ct_235 (G : mj_G) {h : mj_H} (L : isLam h) {n : Nat} {V : Nat → Int} (hs : isS h n V) (s2 : stR n (V 2)) (s3 : stR n (V 3)) {fs : List Fam} (hf : isNf h fs) (hfl : fs.length < 100000) {g b : Int} : mj_Ct G (mj_mt 235) 0 0 [.ref 1412, .int (jI g), .int (jI b)] h (fun o h' => o = .returned none ∧ isNf h' (fs ++ [(g, b, V 2, V 3)]) ∧ isOK h' ∧ FrM i40 noT sKe h h') := by
  have hn := hs.1
  obtain ⟨n1, n2, n3⟩ := id hn
  have hrow : ∀ i, i < 2 → stR n (V (2 + i)) := by
    intro i hi
    rcases (show i = 0 ∨ i = 1 by omega) with e | e <;> subst e
    · exact s2
    · exact s3
  obtain ⟨f, hfe⟩ : ∃ f, f = fs.length := ⟨_, rfl⟩
  have hf40 : hI h 1412 40 = jI f := by
    rw [hfe]
    exact hf.1
  refine mj_Ct_of mj_ok tb_235 rfl rfl (Nat.le_of_ble_eq_true rfl) (fun Run hR => ?_)
  -- the end: found is one more
  have r193 : ∀ (h' : mj_H) (x3 x4 x5 x6 : Option Value), isOK h' → FrM i40 noT sKe h h' → hI h' 1412 40 = jI f → (∀ i t, i < 256 → (fs ++ [(g, b, V 2, V 3)])[i]? = some t → hI h' 1433 i = jI t.1 ∧ hI h' 1434 i = jI t.2.1 ∧ wdR h' (2 * i) t.2.2.1 ∧ wdR h' (2 * i + 1) t.2.2.2) → Run 193 [some (.ref 1412), some (.int (jI g)), some (.int (jI b)), x3, x4, x5, x6] [] h' (0, 0) := by
    intro h' x3 x4 x5 x6 ho F e40 hall
    have L' := F.lay L
    refine hR 60 113 _ _ _ _ _ _ rfl ?_
    refine ⟨L'.K 1412 rfl, L'.K 1412 rfl, rfl, ⟨?_, ?_, hall⟩, ho, F.fI rfl _⟩
    · refine (sI_at _ _ _ _).trans ?_
      rw [e40, jI_add, List.length_append, ← hfe]
      rfl
    · rw [List.length_append]
      show fs.length + 1 ≤ 100000
      omega
  by_cases hbig : 256 ≤ f
  · refine hR 60 0 _ _ _ _ _ _ rfl ?_
    refine ⟨L.K 1412 rfl, fun c => ?_, fun c => ?_⟩
    · refine r193 h _ _ _ _ hs.2.1 (FrM.refl _ _ _ h) hf40 (fun i t hi ht => ?_)
      rw [List.getElem?_append_left (by omega)] at ht
      exact hf.2.2 i t hi ht
    · rw [hf40] at c
      simp (disch := omega) only [mj_lcm, jI_lt, jI_le, jI_eq, jL_lt, jL_le, jL_eq, jI_lt0, jI_0le, jI_0lt, jI_le0, jI_eq0, jL_eq0, jI_L, jI_add, jI_sub, jI_mul, jI_neg, jL_add, jL_sub, jL_mul, jL_neg, jL_I, jI_div, jI_mod, jL_div, jL_mod] at c
      omega
  have nat : ∀ {k : Nat}, k < 262144 → (jI (k : Int)).toNatClampNeg = k := by
    intro k hk
    rw [jI_nat (by omega) (by omega), Int.toNat_natCast]
  -- what holds while the numbers are laid: the first i of them are
  let Q : mj_H → Nat → Prop := fun h' i => isS h' n V ∧ FrM i40 noT sKe h h' ∧ hI h' 1412 40 = jI f ∧ hI h' 1433 f = jI g ∧ hI h' 1434 f = jI b ∧ (∀ j t, j < f → fs[j]? = some t → hI h' 1433 j = jI t.1 ∧ hI h' 1434 j = jI t.2.1 ∧ wdR h' (2 * j) t.2.2.1 ∧ wdR h' (2 * j + 1) t.2.2.2) ∧ ∀ j, j < i → wdR h' (2 * f + j) (V (2 + j))
  have r32 : ∀ (q i : Nat) (iI : Int32) (h' : mj_H) (x4 x5 x6 : Option Value), i + q = 2 → Q h' i → iI = jI i → Run 32 (l235 (jI g) (jI b) iI x4 x5 x6) [] h' (0, 0) := by
    intro q
    induction q with
    | zero =>
      rintro i iI h' x4 x5 x6 hi ⟨k1, F, k3, k4, k5, k6, k7⟩ rfl
      refine hR 60 18 _ _ _ _ _ _ rfl ?_
      refine ⟨fun c => ?_, fun c => ?_⟩
      · refine r193 h' _ _ _ _ k1.2.1 F k3 (fun j t hj ht => ?_)
        by_cases q : j = f
        · rw [q] at ht ⊢
          rw [hfe, at_mid fs _ []] at ht
          rw [← Option.some.inj ht]
          exact ⟨k4, k5, k7 0 (by omega), k7 1 (by omega)⟩
        · have hlt := lt_of_some ht
          simp only [List.length_append, List.length_cons, List.length_nil] at hlt
          rw [List.getElem?_append_left (by omega)] at ht
          exact k6 j t (by omega) ht
      · simp (disch := omega) only [mj_lcm, jI_lt, jI_le, jI_eq, jL_lt, jL_le, jL_eq, jI_lt0, jI_0le, jI_0lt, jI_le0, jI_eq0, jL_eq0, jI_L, jI_add, jI_sub, jI_mul, jI_neg, jL_add, jL_sub, jL_mul, jL_neg, jL_I, jI_div, jI_mod, jL_div, jL_mod] at c
        omega
    | succ q ih =>
      rintro i iI h' x4 x5 x6 hi hQ rfl
      have hQ' := hQ
      obtain ⟨k1, F, k3, k4, k5, k6, k7⟩ := hQ'
      have L' := F.lay L
      have hm := L'.Md
      have sti := hrow i (by omega)
      obtain ⟨v, hv⟩ : ∃ v, v = V (2 + i) := ⟨_, rfl⟩
      rw [← hv] at sti
      have di := (k1.2.2 (2 + i) (by omega)).1
      rw [← hv] at di
      have ri : rgD n (v.natAbs : Int) := by
        obtain ⟨a1, a2⟩ := sti
        constructor <;> omega
      have e2i : jI 2 + jI (i : Int) = jI ((2 + i : Nat) : Int) := by
        rw [jI_add]
        rfl
      have e2f : jI 2 * jI (f : Int) + jI (i : Int) = jI ((2 * f + i : Nat) : Int) := by
        rw [jI_mul, jI_add]
        rfl
      have r187 : ∀ (h3 : mj_H) (x4 x5 x6 : Option Value), Q h3 (i + 1) → Run 187 (l235 (jI g) (jI b) (jI i) x4 x5 x6) [] h3 (0, 0) := by
        intro h3 x4 x5 x6 hQ3
        refine hR 60 111 _ _ _ _ _ _ rfl ?_
        exact ih (i + 1) _ h3 _ _ _ (by omega) hQ3 (by rw [jI_add]; rfl)
      -- the words
      have words : ∀ (h1 : mj_H), Q h1 i → isD h1 4 n (v.natAbs : Int) → hI h1 1435 (2 * f + i) = jI v.sign → ∀ (y k : Nat) (kI : Int32) (h3 : mj_H) (x5 x6 : Option Value), k + y = 512 → FrM noT noT (fun c => c = 1436) h1 h3 → (∀ l, l < k → hI h3 1436 (512 * (2 * f + i) + l) = jI ((v.natAbs : Int) / pB (2 * l))) → (∀ c, c < 512 * (2 * f + i) ∨ 512 * (2 * f + i) + k ≤ c → hI h3 1436 c = hI h1 1436 c) → kI = jI k → Run 89 (l235 (jI g) (jI b) (jI i) (some (.int kI)) x5 x6) [] h3 (0, 0) := by
        intro h1 hQ1 d1 sg1 y
        obtain ⟨m1, F1, m3, m4, m5, m6, m7⟩ := id hQ1
        induction y with
        | zero =>
          rintro k kI h3 x5 x6 hk F3 hw hrest rfl
          refine hR 60 54 _ _ _ _ _ _ rfl ?_
          refine ⟨fun c => ?_, fun c => ?_⟩
          · have keepW : ∀ {j : Nat} {x : Int}, j < 2 * f + i → wdR h1 j x → wdR h3 j x := fun hj q => ⟨(F3.I (by decide) (by decide) _).trans q.1, fun l hl => (hrest _ (by omega)).trans (q.2 l hl)⟩
            refine r187 h3 _ _ _ ⟨?_, F1.trans (F3.mono (fun _ z => z.elim) (fun _ z => z) (fun _ z => by omega)), (F3.2.2.1 40 (fun z => z)).trans m3, (F3.I (by decide) (by decide) _).trans m4, (F3.I (by decide) (by decide) _).trans m5, fun j t hj ht => ?_, fun j hj => ?_⟩
            · obtain ⟨⟨a1, a2, a3⟩, b1, c1⟩ := m1
              refine ⟨⟨(F3.2.2.1 48 (fun z => z)).trans a1, a2, a3⟩, fun c hc => ?_, fun l hl => ⟨fun c hc => (F3.I (by decide) (by decide) _).trans ((c1 l hl).1 c hc), (c1 l hl).2⟩⟩
              obtain ⟨e, e1, e2, e3⟩ := b1 c hc
              exact ⟨e, e1, e2, (F3.I (by decide) (by decide) _).trans e3⟩
            · obtain ⟨p1, p2, p3, p4⟩ := m6 j t hj ht
              exact ⟨(F3.I (by decide) (by decide) _).trans p1, (F3.I (by decide) (by decide) _).trans p2, keepW (by omega) p3, keepW (by omega) p4⟩
            · by_cases q : j = i
              · rw [q, ← hv]
                exact ⟨(F3.I (by decide) (by decide) _).trans sg1, fun l hl => hw l (by omega)⟩
              · exact keepW (by omega) (m7 j (by omega))
          · simp (disch := omega) only [mj_lcm, jI_lt, jI_le, jI_eq, jL_lt, jL_le, jL_eq, jI_lt0, jI_0le, jI_0lt, jI_le0, jI_eq0, jL_eq0, jI_L, jI_add, jI_sub, jI_mul, jI_neg, jL_add, jL_sub, jL_mul, jL_neg, jL_I, jI_div, jI_mod, jL_div, jL_mod] at c
            omega
        | succ y ihy =>
          rintro k kI h3 x5 x6 hk F3 hw hrest rfl
          have F13 : FrM i40 noT sKe h h3 := F1.trans (F3.mono (fun _ z => z.elim) (fun _ z => z) (fun _ z => by omega))
          have L3 := F13.lay L
          have hm3 := L3.Md
          have d3 : isD h3 4 n (v.natAbs : Int) := fun c hc => (F3.I (by decide) (by decide) _).trans (d1 c hc)
          have e48 : hI h3 1412 48 = jI n := (F3.2.2.1 48 (fun z => z)).trans m1.1.1
          have e40 : hI h3 1412 40 = jI f := (F3.2.2.1 40 (fun z => z)).trans m3
          have ek : jI 2 * jI (k : Int) = jI ((2 * k : Nat) : Int) := by
            rw [jI_mul]
            rfl
          have ek1 : jI 2 * jI (k : Int) + jI 1 = jI ((2 * k + 1 : Nat) : Int) := by
            rw [jI_mul, jI_add]
            rfl
          have q0 := dgt_rng (v.natAbs : Int) (2 * k)
          have q1 := dgt_rng (v.natAbs : Int) (2 * k + 1)
          have zdig : ∀ {l : Nat}, n ≤ l → dgt (v.natAbs : Int) l = 0 := by
            intro l hl
            unfold dgt
            rw [big_z (by omega) ri (by omega) hl]
            rfl
          have r181 : ∀ (h4 : mj_H) (x5 x6 : Option Value), FrM noT noT (fun c => c = 1436) h1 h4 → (∀ l, l < k + 1 → hI h4 1436 (512 * (2 * f + i) + l) = jI ((v.natAbs : Int) / pB (2 * l))) → (∀ c, c < 512 * (2 * f + i) ∨ 512 * (2 * f + i) + (k + 1) ≤ c → hI h4 1436 c = hI h1 1436 c) → Run 181 (l235 (jI g) (jI b) (jI i) (some (.int (jI k))) x5 x6) [] h4 (0, 0) := by
            intro h4 x5 x6 F4 hw4 hr4
            refine hR 60 109 _ _ _ _ _ _ rfl ?_
            exact ihy (k + 1) _ h4 _ _ (by omega) F4 hw4 hr4 (by rw [jI_add]; rfl)
          have r153 : Run 153 (l235 (jI g) (jI b) (jI i) (some (.int (jI k))) (some (.int (jI (dgt (v.natAbs : Int) (2 * k))))) (some (.int (jI (dgt (v.natAbs : Int) (2 * k + 1)))))) [] h3 (0, 0) := by
            have eidx : jI 512 * (jI 2 * hI h3 1412 40 + jI (i : Int)) + jI (k : Int) = jI ((512 * (2 * f + i) + k : Nat) : Int) := by
              rw [e40, e2f, jI_mul, jI_add]
              rfl
            have ev : jI (dgt (v.natAbs : Int) (2 * k)) ||| (jI (dgt (v.natAbs : Int) (2 * k + 1)) <<< (jI 16 &&& 31)) = jI ((v.natAbs : Int) / pB (2 * k)) := by
              rw [jI_shl (K := 16) 16 (by decide) rfl, Int32.or_comm, jI_or (by decide) q0.1 (by omega)]
              exact jI_congr (wd2 _ _)
            refine hR 60 91 _ _ _ _ _ _ rfl ?_
            refine ⟨L3.K 1412 rfl, _, L3.R 1412 44 _ rfl, L3.K 1412 rfl, L3.K 1436 rfl, ?_, ?_⟩
            · rw [eidx, show hN h3 1436 = 262144 from L3.N 1435 rfl]
              exact jI_in (by omega) (by omega) (by omega)
            · rw [eidx, nat (by omega), ev]
              refine r181 _ _ _ (F3.aI (c := 1436) rfl (by decide) _ _) (fun l hl => ?_) (fun c hc => (sI_k _ _ (by omega) _).trans (hrest c (by omega)))
              by_cases q : l = k
              · rw [q]
                exact sI_at _ _ _ _
              · exact (sI_k _ _ (by omega) _).trans (hw l (by omega))
          have r151 : ∀ (hiI : Int32) (x6 : Option Value), hiI = jI (dgt (v.natAbs : Int) (2 * k + 1)) → Run 151 (l235 (jI g) (jI b) (jI i) (some (.int (jI k))) (some (.int (jI (dgt (v.natAbs : Int) (2 * k))))) x6) [.int hiI] h3 (0, 0) := by
            rintro hiI x6 rfl
            refine hR 60 90 _ _ _ _ _ _ rfl ?_
            exact r153
          have r123 : ∀ (x6 : Option Value), Run 123 (l235 (jI g) (jI b) (jI i) (some (.int (jI k))) (some (.int (jI (dgt (v.natAbs : Int) (2 * k))))) x6) [] h3 (0, 0) := by
            intro x6
            refine hR 60 72 _ _ _ _ _ _ rfl ?_
            refine ⟨L3.K 1412 rfl, fun c => ?_, fun c => ?_⟩
            · rw [e48, ek1] at c
              simp (disch := omega) only [mj_lcm, jI_lt, jI_le, jI_eq, jL_lt, jL_le, jL_eq, jI_lt0, jI_0le, jI_0lt, jI_le0, jI_eq0, jL_eq0, jI_L, jI_add, jI_sub, jI_mul, jI_neg, jL_add, jL_sub, jL_mul, jL_neg, jL_I, jI_div, jI_mod, jL_div, jL_mod] at c
              exact r151 _ _ (by rw [zdig (by omega)])
            · rw [e48, ek1] at c
              simp (disch := omega) only [mj_lcm, jI_lt, jI_le, jI_eq, jL_lt, jL_le, jL_eq, jI_lt0, jI_0le, jI_0lt, jI_le0, jI_eq0, jL_eq0, jI_L, jI_add, jI_sub, jI_mul, jI_neg, jL_add, jL_sub, jL_mul, jL_neg, jL_I, jI_div, jI_mod, jL_div, jL_mod] at c
              have c237 := ct_237 G hm3 (i := 4) (k := 2 * k + 1) (by omega) (by omega)
              rw [d3 (2 * k + 1) (by omega), ← ek1] at c237
              exact ⟨L3.K 1412 rfl, jcall c237 (r151 _ _ rfl)⟩
          have r121 : ∀ (loI : Int32) (x5 x6 : Option Value), loI = jI (dgt (v.natAbs : Int) (2 * k)) → Run 121 (l235 (jI g) (jI b) (jI i) (some (.int (jI k))) x5 x6) [.int loI] h3 (0, 0) := by
            rintro loI x5 x6 rfl
            refine hR 60 71 _ _ _ _ _ _ rfl ?_
            exact r123 _
          have r97 : ∀ (x5 x6 : Option Value), Run 97 (l235 (jI g) (jI b) (jI i) (some (.int (jI k))) x5 x6) [] h3 (0, 0) := by
            intro x5 x6
            refine hR 60 57 _ _ _ _ _ _ rfl ?_
            refine ⟨L3.K 1412 rfl, fun c => ?_, fun c => ?_⟩
            · rw [e48, ek] at c
              simp (disch := omega) only [mj_lcm, jI_lt, jI_le, jI_eq, jL_lt, jL_le, jL_eq, jI_lt0, jI_0le, jI_0lt, jI_le0, jI_eq0, jL_eq0, jI_L, jI_add, jI_sub, jI_mul, jI_neg, jL_add, jL_sub, jL_mul, jL_neg, jL_I, jI_div, jI_mod, jL_div, jL_mod] at c
              exact r121 _ _ _ (by rw [zdig (by omega)])
            · rw [e48, ek] at c
              simp (disch := omega) only [mj_lcm, jI_lt, jI_le, jI_eq, jL_lt, jL_le, jL_eq, jI_lt0, jI_0le, jI_0lt, jI_le0, jI_eq0, jL_eq0, jI_L, jI_add, jI_sub, jI_mul, jI_neg, jL_add, jL_sub, jL_mul, jL_neg, jL_I, jI_div, jI_mod, jL_div, jL_mod] at c
              have c237 := ct_237 G hm3 (i := 4) (k := 2 * k) (by omega) (by omega)
              rw [d3 (2 * k) (by omega), ← ek] at c237
              exact ⟨L3.K 1412 rfl, jcall c237 (r121 _ _ _ rfl)⟩
          refine hR 60 54 _ _ _ _ _ _ rfl ?_
          refine ⟨fun c => ?_, fun c => r97 _ _⟩
          simp (disch := omega) only [mj_lcm, jI_lt, jI_le, jI_eq, jL_lt, jL_le, jL_eq, jI_lt0, jI_0le, jI_0lt, jI_le0, jI_eq0, jL_eq0, jI_L, jI_add, jI_sub, jI_mul, jI_neg, jL_add, jL_sub, jL_mul, jL_neg, jL_I, jI_div, jI_mod, jL_div, jL_mod] at c
          omega
      have r86 : ∀ (h1 : mj_H) (x4 x5 x6 : Option Value), Q h1 i → isD h1 4 n (v.natAbs : Int) → hI h1 1435 (2 * f + i) = jI v.sign → Run 86 (l235 (jI g) (jI b) (jI i) x4 x5 x6) [] h1 (0, 0) := by
        intro h1 x4 x5 x6 hQ1 d1 sg1
        refine hR 60 52 _ _ _ _ _ _ rfl ?_
        exact words h1 hQ1 d1 sg1 512 0 _ h1 _ _ (by omega) (FrM.refl _ _ _ h1) (fun l hl => by omega) (fun _ _ => rfl) rfl
      have r79 : ∀ (h1 : mj_H) (x4 x5 x6 : Option Value), Q h1 i → hI h1 1435 (2 * f + i) = jI v.sign → Run 79 (l235 (jI g) (jI b) (jI i) x4 x5 x6) [] h1 (0, 0) := by
        intro h1 x4 x5 x6 hQ1 sg1
        obtain ⟨m1, F1, m3, m4, m5, m6, m7⟩ := id hQ1
        have L1 := F1.lay L
        have d1 := (m1.2.2 (2 + i) (by omega)).1
        rw [← hv] at d1
        have c239 := ct_239 G L1.Md (i := 2 + i) (by omega) m1.1 d1 sti.rg
        rw [← e2i] at c239
        refine hR 60 47 _ _ _ _ _ _ rfl ?_
        refine ⟨L1.K 1412 rfl, jcallP c239 ?_⟩
        rintro o h2 ⟨rfl, d2, F2⟩
        have FM : FrM noT noT (fun c => c = 1440) h1 h2 := FrI.toM F2.1 (by simp) (fun x hx => List.mem_singleton.1 hx)
        have w : ∀ {j : Nat} {x : Int}, wdR h1 j x → wdR h2 j x := fun q => ⟨(FM.I (by decide) (by decide) _).trans q.1, fun l hl => (FM.I (by decide) (by decide) _).trans (q.2 l hl)⟩
        refine r86 h2 _ _ _ ⟨m1.tmp F2 d2, F1.trans (FM.mono (fun _ z => z.elim) (fun _ z => z) (fun _ z => Or.inr z)), (FM.2.2.1 40 (fun z => z)).trans m3, (FM.I (by decide) (by decide) _).trans m4, (FM.I (by decide) (by decide) _).trans m5, fun j t hj ht => ?_, fun j hj => w (m7 j hj)⟩ d2 ((FM.I (by decide) (by decide) _).trans sg1)
        obtain ⟨p1, p2, p3, p4⟩ := m6 j t hj ht
        exact ⟨(FM.I (by decide) (by decide) _).trans p1, (FM.I (by decide) (by decide) _).trans p2, w p3, w p4⟩
      have r78 : ∀ (sI' : Int32) (x4 x5 x6 : Option Value), sI' = jI v.sign → Run 78 (l235 (jI g) (jI b) (jI i) x4 x5 x6) [.int sI', .int (jI ((2 * f + i : Nat) : Int)), .ref 1435] h' (0, 0) := by
        rintro sI' x4 x5 x6 rfl
        refine hR 60 46 _ _ _ _ _ _ rfl ?_
        refine ⟨L'.K 1435 rfl, ?_, ?_⟩
        · rw [show hN h' 1435 = 512 from L'.N 1434 rfl]
          exact jI_in (by omega) (by omega) (by omega)
        · rw [nat (by omega)]
          have w : ∀ {j : Nat} {x : Int}, j < 2 * f + i → wdR h' j x → wdR (sI h' 1435 (2 * f + i) (jI v.sign)) j x := fun hj q => ⟨(sI_k _ _ (by omega) _).trans q.1, fun l hl => q.2 l hl⟩
          refine r79 _ _ _ _ ⟨k1, F.aI (c := 1435) (by omega) (by decide) _ _, k3, k4, k5, fun j t hj ht => ?_, fun j hj => w (by omega) (k7 j hj)⟩ (sI_at _ _ _ _)
          obtain ⟨p1, p2, p3, p4⟩ := k6 j t hj ht
          exact ⟨p1, p2, w (by omega) p3, w (by omega) p4⟩
      have r37 : ∀ (x4 x5 x6 : Option Value), Run 37 (l235 (jI g) (jI b) (jI i) x4 x5 x6) [] h' (0, 0) := by
        intro x4 x5 x6
        have c236 := ct_236 G hm (i := 2 + i) (by omega) k1.1 di sti.rg
        have c238 := ct_238' G hm (i := 2 + i) (by omega) k1.1 di sti.rg
        rw [← e2i] at c236 c238
        have eidx : jI 2 * hI h' 1412 40 + jI (i : Int) = jI ((2 * f + i : Nat) : Int) := by rw [k3, e2f]
        refine hR 60 21 _ _ _ _ _ _ rfl ?_
        refine ⟨L'.K 1412 rfl, _, L'.R 1412 43 _ rfl, L'.K 1412 rfl, L'.K 1412 rfl, jcall c236 ?_⟩
        rw [eidx]
        by_cases z : v = 0
        · rw [if_pos z]
          exact ⟨fun c => absurd c (by decide), fun c => r78 _ _ _ _ (by rw [z]; rfl)⟩
        · rw [if_neg z]
          refine ⟨fun c => ⟨L'.K 1412 rfl, jcall c238 ?_⟩, fun c => absurd rfl c⟩
          by_cases z2 : v < 0
          · rw [if_pos z2]
            exact ⟨fun c => absurd c (by decide), fun c => r78 _ _ _ _ (by rw [Int.sign_eq_neg_one_of_neg z2])⟩
          · rw [if_neg z2]
            exact ⟨fun c => r78 _ _ _ _ (by rw [Int.sign_eq_one_of_pos (by omega)]), fun c => absurd rfl c⟩
      refine hR 60 18 _ _ _ _ _ _ rfl ?_
      refine ⟨fun c => ?_, fun c => r37 _ _ _⟩
      simp (disch := omega) only [mj_lcm, jI_lt, jI_le, jI_eq, jL_lt, jL_le, jL_eq, jI_lt0, jI_0le, jI_0lt, jI_le0, jI_eq0, jL_eq0, jI_L, jI_add, jI_sub, jI_mul, jI_neg, jL_add, jL_sub, jL_mul, jL_neg, jL_I, jI_div, jI_mod, jL_div, jL_mod] at c
      omega
  have r30 : ∀ (h' : mj_H) (x3 x4 x5 x6 : Option Value), Q h' 0 → Run 30 [some (.ref 1412), some (.int (jI g)), some (.int (jI b)), x3, x4, x5, x6] [] h' (0, 0) := by
    intro h' x3 x4 x5 x6 hQ
    refine hR 60 16 _ _ _ _ _ _ rfl ?_
    exact r32 2 0 _ h' _ _ _ (by omega) hQ rfl
  have vin : ∀ {h' : mj_H} {c : Nat}, hI h' 1412 40 = jI f → hN h' c = 256 → vp_in (hI h' 1412 40) (hN h' c) := by
    intro h' c e hc
    rw [e, hc]
    exact jI_in (by omega) (by omega) (by omega)
  have r10 : ∀ (x3 x4 x5 x6 : Option Value), Run 10 [some (.ref 1412), some (.int (jI g)), some (.int (jI b)), x3, x4, x5, x6] [] h (0, 0) := by
    intro x3 x4 x5 x6
    refine hR 60 4 _ _ _ _ _ _ rfl ?_
    refine ⟨L.K 1412 rfl, _, L.R 1412 41 _ rfl, L.K 1412 rfl, L.K 1433 rfl, vin hf40 (L.N 1432 rfl), ?_⟩
    rw [hf40, nat (by omega)]
    have r20 : ∀ (h1 : mj_H) (x3 x4 x5 x6 : Option Value), h1 = sI h 1433 f (jI g) → Run 20 [some (.ref 1412), some (.int (jI g)), some (.int (jI b)), x3, x4, x5, x6] [] h1 (0, 0) := by
      rintro h1 x3 x4 x5 x6 rfl
      refine hR 60 10 _ _ _ _ _ _ rfl ?_
      refine ⟨L.K 1412 rfl, _, L.R 1412 42 _ rfl, L.K 1412 rfl, L.K 1434 rfl, vin (h' := sI h 1433 f (jI g)) hf40 (L.N 1433 rfl), ?_⟩
      rw [show hI (sI h 1433 f (jI g)) 1412 40 = jI f from hf40, nat (by omega)]
      have F0 : FrM i40 noT sKe h (sI (sI h 1433 f (jI g)) 1434 f (jI b)) := ((FrM.refl i40 noT sKe h).aI (c := 1433) (by omega) (by decide) _ _).aI (c := 1434) (by omega) (by decide) _ _
      refine r30 _ _ _ _ _ ⟨hs, F0, hf40, sI_at h 1433 f (jI g), sI_at _ _ _ _, fun j t hj ht => ?_, fun j hj => by omega⟩
      obtain ⟨p1, p2, p3, p4⟩ := hf.2.2 j t (by omega) ht
      exact ⟨(sI_k h 1433 (show j ≠ f by omega) (jI g)).trans p1, (sI_k (sI h 1433 f (jI g)) 1434 (show j ≠ f by omega) (jI b)).trans p2, p3, p4⟩
    exact r20 _ _ _ _ _ rfl
  refine hR 60 0 _ _ _ _ _ _ rfl ?_
  refine ⟨L.K 1412 rfl, fun c => ?_, fun c => r10 _ _ _ _⟩
  rw [hf40] at c
  simp (disch := omega) only [mj_lcm, jI_lt, jI_le, jI_eq, jL_lt, jL_le, jL_eq, jI_lt0, jI_0le, jI_0lt, jI_le0, jI_eq0, jL_eq0, jI_L, jI_add, jI_sub, jI_mul, jI_neg, jL_add, jL_sub, jL_mul, jL_neg, jL_I, jI_div, jI_mod, jL_div, jL_mod] at c
  omega
