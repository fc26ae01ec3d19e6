/-! the model: a discriminant is taken, a form is asked about, Kronecker's symbol -/
/-- discriminants that are taken -/
def tkP (v : Int) : Prop := (-1048576 ≤ v ∧ v ≤ 1048576) ∧ isDd v ∧ nsq v
/-- FormHouseModel.take(I)I; cuts at [14, 29, 33, 38, 50, 54, 55, 56, 66, 69, 75] -/
def cl_224_1 : List mj_E := (46, false, .lcmp, 1, 0, 0, 0, 0, 0) ::
  (47, false, .ifCond .eq 7, 3, 28, 0, 0, 0, 0) ::
  (50, true, .iconst 1, 1, 0, 0, 0, jI 1, 0) ::
  (51, false, .goto 4, 3, 29, 0, 0, 0, 0) ::
  (54, true, .iconst 0, 1, 0, 0, 0, jI 0, 0) ::
  (55, true, .istore_n 2, 1, 0, 0, 0, 0, 0) ::
  (56, true, .aload_n 0, 1, 0, 0, 0, 0, 0) ::
  (57, false, .iload_n 2, 1, 0, 0, 0, 0, 0) ::
  (58, false, .ifCond .eq 7, 3, 35, 0, 0, 0, 0) ::
  (61, false, .iconst 0, 1, 0, 0, 0, jI 0, 0) ::
  (62, false, .goto 4, 3, 36, 0, 0, 0, 0) ::
  (65, false, .iconst 1, 1, 0, 0, 0, jI 1, 0) ::
  (66, true, .putfield 120, 3, 17, 0, 0, 0, 0) ::
  (69, true, .iload_n 2, 1, 0, 0, 0, 0, 0) ::
  (70, false, .ifCond .ne 5, 3, 41, 0, 0, 0, 0) ::
  (73, false, .iconst 0, 1, 0, 0, 0, jI 0, 0) ::
  (74, false, .ireturn, 1, 0, 0, 0, 0, 0) ::
  (75, true, .aload_n 0, 1, 0, 0, 0, 0, 0) ::
  (76, false, .iload_n 1, 1, 0, 0, 0, 0, 0) ::
  (77, false, .i2l, 1, 0, 0, 0, 0, 0) ::
  (78, false, .invokevirtual 116, 3, 191, 1, 17, 0, 0) ::
  (81, false, .aload_n 0, 1, 0, 0, 0, 0, 0) ::
  (82, false, .getfield 169, 3, 17, 7, 0, 0, 0) ::
  (85, false, .ireturn, 1, 0, 0, 0, 0, 0) ::
  []
def cl_224_0 : List mj_E := (0, false, .iload_n 1, 1, 0, 0, 0, 0, 0) ::
  (1, false, .i2l, 1, 0, 0, 0, 0, 0) ::
  (2, false, .ldc2_w 240, 3, 0, 0, 0, 0, jL (-1048576)) ::
  (5, false, .ldc2_w 242, 3, 0, 0, 0, 0, jL 1048576) ::
  (8, false, .invokestatic 244, 3, 225, 3, 0, 0, 0) ::
  (11, false, .ifCond .eq 43, 3, 28, 0, 0, 0, 0) ::
  (14, true, .iload_n 1, 1, 0, 0, 0, 0, 0) ::
  (15, false, .i2l, 1, 0, 0, 0, 0, 0) ::
  (16, false, .ldc2_w 138, 3, 0, 0, 0, 0, jL 4) ::
  (19, false, .invokestatic 143, 3, 200, 2, 0, 0, 0) ::
  (22, false, .ldc2_w 130, 3, 0, 0, 0, 0, jL 2) ::
  (25, false, .lcmp, 1, 0, 0, 0, 0, 0) ::
  (26, false, .ifCond .ge 28, 3, 28, 0, 0, 0, 0) ::
  (29, true, .iload_n 1, 1, 0, 0, 0, 0, 0) ::
  (30, false, .ifCond .lt 20, 3, 26, 0, 0, 0, 0) ::
  (33, true, .iload_n 1, 1, 0, 0, 0, 0, 0) ::
  (34, false, .i2l, 1, 0, 0, 0, 0, 0) ::
  (35, false, .invokestatic 159, 3, 192, 1, 0, 0, 0) ::
  (38, true, .iload_n 1, 1, 0, 0, 0, 0, 0) ::
  (39, false, .i2l, 1, 0, 0, 0, 0, 0) ::
  (40, false, .invokestatic 159, 3, 192, 1, 0, 0, 0) ::
  (43, false, .lmul, 1, 0, 0, 0, 0, 0) ::
  (44, false, .iload_n 1, 1, 0, 0, 0, 0, 0) ::
  (45, false, .i2l, 1, 0, 0, 0, 0, 0) ::
  cl_224_1
def cd_224 : List mj_E := cl_224_0
def cx_224 : mj_X := (1, [], [])
theorem tb_224 : mj_tab (mj_mt 224) cx_224 cd_224 mj_mh [(0, 0, 0), (0, 0, 0), (8042, 0, 0), (8043, 0, 0), (8044, 0, 0), (0, 0, 0), (0, 0, 0), (0, 0, 0), (6224, 0, 0), (7007, 0, 0), (6218, 0, 0), (0, 0, 0), (0, 0, 0), (0, 0, 0), (0, 0, 0), (0, 0, 0), (0, 0, 0), (6214, 0, 0), (0, 0, 0), (0, 0, 0), (6214, 0, 0), (0, 0, 0), (0, 0, 0), (0, 0, 0), (0, 0, 0), (0, 0, 0), (0, 0, 0), (0, 0, 0), (0, 0, 0), (0, 0, 0), (0, 0, 0), (0, 0, 0), (0, 0, 0), (0, 0, 0), (0, 0, 0), (0, 0, 0), (7099, 0, 0), (0, 0, 0), (0, 0, 0), (0, 0, 0), (0, 0, 0), (0, 0, 0), (0, 0, 0), (0, 0, 0), (6210, 0, 0), (0, 0, 0), (7106, 0, 0), (0, 0, 0)] = true := mj_tab_f (by decide +kernel)
theorem ct_224 (G : mj_G) {h : mj_H} (L : isLam h) {v : Int} (hv : -2147483648 ≤ v ∧ v < 2147483648) {P : mj_H → Prop} {cnt : Nat} (hb : tkP v → mj_Ct G (mj_mt 191) 0 0 [.ref 1412, .long (jL v)] (sI h 1412 0 (jI 0)) (fun oc h' => oc = .returned none ∧ P h' ∧ hI h' 1412 7 = jI cnt ∧ isLam h')) : mj_Ct G (mj_mt 224) 0 0 [.ref 1412, .int (jI v)] h (fun oc h' => (tkP v → oc = .returned (some (.int (jI cnt))) ∧ P h') ∧ (¬ tkP v → jB 0 1 h oc h')) := by
  have ev : (jI v).toInt64 = jL v := jI_L (by omega) (by omega)
  refine mj_Ct_of mj_ok tb_224 rfl rfl (Nat.le_of_ble_eq_true rfl) (fun Run hR => ?_)
  have r75 : ∀ (b : Int32), tkP v → Run 75 [some (.ref 1412), some (.int (jI v)), some (.int b)] [] (sI h 1412 0 (jI 0)) (0, 0) := by
    intro b ht
    have hb' := hb ht
    rw [← ev] at hb'
    refine hR 60 41 _ _ _ _ _ _ rfl ?_
    refine ⟨L.K 1412 rfl, jcallP hb' ?_⟩
    rintro oc h3 ⟨rfl, p3, e7, L3⟩
    refine ⟨L3.K 1412 rfl, fun _ => ⟨?_, p3⟩, fun z => absurd ht z⟩
    rw [e7]
  have r56 : ∀ (b : Int), ((b = 1 ∧ tkP v) ∨ (b = 0 ∧ ¬ tkP v)) → Run 56 [some (.ref 1412), some (.int (jI v)), some (.int (jI b))] [] h (0, 0) := by
    rintro b (⟨rfl, ht⟩ | ⟨rfl, ht⟩)
    · have r69 : Run 69 [some (.ref 1412), some (.int (jI v)), some (.int (jI 1))] [] (sI h 1412 0 (jI 0)) (0, 0) := by
        refine hR 60 37 _ _ _ _ _ _ rfl ?_
        exact ⟨fun c => absurd c (by decide), fun c => r75 _ ht⟩
      have r66 : Run 66 [some (.ref 1412), some (.int (jI v)), some (.int (jI 1))] [.int (jI 0), .ref 1412] h (0, 0) := by
        refine hR 60 36 _ _ _ _ _ _ rfl ?_
        exact ⟨L.K 1412 rfl, r69⟩
      refine hR 60 30 _ _ _ _ _ _ rfl ?_
      exact ⟨fun c => absurd c (by decide), fun c => r66⟩
    · have r69 : Run 69 [some (.ref 1412), some (.int (jI v)), some (.int (jI 0))] [] (sI h 1412 0 (jI 1)) (0, 0) := by
        refine hR 60 37 _ _ _ _ _ _ rfl ?_
        exact ⟨fun c => ⟨fun z => absurd z ht, fun _ => ⟨rfl, sI_at _ _ _ _, FrM.code h _⟩⟩, fun c => absurd rfl c⟩
      have r66 : Run 66 [some (.ref 1412), some (.int (jI v)), some (.int (jI 0))] [.int (jI 1), .ref 1412] h (0, 0) := by
        refine hR 60 36 _ _ _ _ _ _ rfl ?_
        exact ⟨L.K 1412 rfl, r69⟩
      refine hR 60 30 _ _ _ _ _ _ rfl ?_
      exact ⟨fun c => r66, fun c => absurd rfl c⟩
  have r55 : ∀ (b : Int) (x2 : Option Value), ((b = 1 ∧ tkP v) ∨ (b = 0 ∧ ¬ tkP v)) → Run 55 [some (.ref 1412), some (.int (jI v)), x2] [.int (jI b)] h (0, 0) := by
    intro b x2 hb
    refine hR 60 29 _ _ _ _ _ _ rfl ?_
    exact r56 b hb
  have r54 : ∀ (x2 : Option Value), ¬ tkP v → Run 54 [some (.ref 1412), some (.int (jI v)), x2] [] h (0, 0) := by
    intro x2 ht
    refine hR 60 28 _ _ _ _ _ _ rfl ?_
    exact r55 0 _ (Or.inr ⟨rfl, ht⟩)
  have r50 : ∀ (x2 : Option Value), tkP v → Run 50 [some (.ref 1412), some (.int (jI v)), x2] [] h (0, 0) := by
    intro x2 ht
    refine hR 60 26 _ _ _ _ _ _ rfl ?_
    exact r55 1 _ (Or.inl ⟨rfl, ht⟩)
  have r33 : ∀ (x2 : Option Value), (-1048576 ≤ v ∧ v ≤ 1048576) → isDd v → 0 ≤ v → Run 33 [some (.ref 1412), some (.int (jI v)), x2] [] h (0, 0) := by
    intro x2 h1 h2 h0
    have c192 := ct_192 G (v := v) (by omega) (by omega) h
    rw [← ev] at c192
    refine hR 60 15 _ _ _ _ _ _ rfl ?_
    refine jcallP c192 ?_
    rintro oc h3 ⟨rfl, w, rfl, w1, w2, w3, w4⟩
    have r38 : Run 38 [some (.ref 1412), some (.int (jI v)), x2] [.long (jL w)] h3 (0, 0) := by
      refine hR 60 18 _ _ _ _ _ _ rfl ?_
      refine jcallP c192 ?_
      rintro oc h4 ⟨rfl, w', rfl, w1', w2', w3', w4'⟩
      have ew : w = w' := isWd_unique (d := v) ⟨w1, w3, w4⟩ ⟨w1', w3', w4'⟩
      subst ew
      have wq := sqn w
      refine ⟨fun c => ?_, fun c => ?_⟩
      · rw [ev, jL_mul] at c
        simp (disch := omega) only [mj_lcm, jI_lt, jI_le, jI_eq, jL_lt, jL_le, jL_eq, jI_lt0, jI_0le, jI_0lt, jI_le0, jI_eq0, jL_eq0, jI_L, jI_add, jI_sub, jI_mul, jI_neg, jL_add, jL_sub, jL_mul, jL_neg, jL_I, jI_div, jI_mod, jL_div, jL_mod] at c
        exact r54 _ (fun z => z.2.2 w c)
      · rw [ev, jL_mul] at c
        simp (disch := omega) only [mj_lcm, jI_lt, jI_le, jI_eq, jL_lt, jL_le, jL_eq, jI_lt0, jI_0le, jI_0lt, jI_le0, jI_eq0, jL_eq0, jI_L, jI_add, jI_sub, jI_mul, jI_neg, jL_add, jL_sub, jL_mul, jL_neg, jL_I, jI_div, jI_mod, jL_div, jL_mod] at c
        refine r50 _ ⟨h1, h2, fun k hk => c ?_⟩
        have ek : (w : Int) = k.natAbs := by
          refine isWd_unique (d := v) ⟨w1, w3, w4⟩ ⟨by omega, ?_, ?_⟩
          · rw [← hk, ← Int.natCast_mul, Int.natAbs_mul_self]
            exact Int.le_refl _
          · have e9 : ((k.natAbs : Int) + 1) * (k.natAbs + 1) = k * k + 2 * k.natAbs + 1 := by
              rw [Int.add_mul, Int.mul_add, ← Int.natCast_mul, Int.natAbs_mul_self]
              omega
            rw [e9, hk]
            omega
        rw [ek, ← Int.natCast_mul, Int.natAbs_mul_self]
        exact hk
    exact r38
  have r29 : ∀ (x2 : Option Value), (-1048576 ≤ v ∧ v ≤ 1048576) → isDd v → Run 29 [some (.ref 1412), some (.int (jI v)), x2] [] h (0, 0) := by
    intro x2 h1 h2
    refine hR 60 13 _ _ _ _ _ _ rfl ?_
    refine ⟨fun c => ?_, fun c => ?_⟩
    · simp (disch := omega) only [mj_lcm, jI_lt, jI_le, jI_eq, jL_lt, jL_le, jL_eq, jI_lt0, jI_0le, jI_0lt, jI_le0, jI_eq0, jL_eq0, jI_L, jI_add, jI_sub, jI_mul, jI_neg, jL_add, jL_sub, jL_mul, jL_neg, jL_I, jI_div, jI_mod, jL_div, jL_mod] at c
      refine r50 _ ⟨h1, h2, fun k hk => ?_⟩
      have := sqn k
      omega
    · simp (disch := omega) only [mj_lcm, jI_lt, jI_le, jI_eq, jL_lt, jL_le, jL_eq, jI_lt0, jI_0le, jI_0lt, jI_le0, jI_eq0, jL_eq0, jI_L, jI_add, jI_sub, jI_mul, jI_neg, jL_add, jL_sub, jL_mul, jL_neg, jL_I, jI_div, jI_mod, jL_div, jL_mod] at c
      exact r33 _ h1 h2 (by omega)
  have r14 : ∀ (x2 : Option Value), (-1048576 ≤ v ∧ v ≤ 1048576) → Run 14 [some (.ref 1412), some (.int (jI v)), x2] [] h (0, 0) := by
    intro x2 h1
    have c200 := ct_200 G (x := v) (y := 4) (by omega) (by omega) (by omega) (by omega) h
    rw [← ev] at c200
    refine hR 60 6 _ _ _ _ _ _ rfl ?_
    refine jcall c200 ?_
    refine ⟨fun c => ?_, fun c => ?_⟩
    · simp only [mj_lcm] at c
      simp (disch := omega) only [mj_lcm, jI_lt, jI_le, jI_eq, jL_lt, jL_le, jL_eq, jI_lt0, jI_0le, jI_0lt, jI_le0, jI_eq0, jL_eq0, jI_L, jI_add, jI_sub, jI_mul, jI_neg, jL_add, jL_sub, jL_mul, jL_neg, jL_I, jI_div, jI_mod, jL_div, jL_mod] at c
      refine r54 _ (fun z => ?_)
      have := z.2.1
      unfold isDd at this
      omega
    · simp only [mj_lcm] at c
      simp (disch := omega) only [mj_lcm, jI_lt, jI_le, jI_eq, jL_lt, jL_le, jL_eq, jI_lt0, jI_0le, jI_0lt, jI_le0, jI_eq0, jL_eq0, jI_L, jI_add, jI_sub, jI_mul, jI_neg, jL_add, jL_sub, jL_mul, jL_neg, jL_I, jI_div, jI_mod, jL_div, jL_mod] at c
      refine r29 _ h1 ?_
      unfold isDd
      omega
  have c225 := ct_225 G (v := v) (a := -1048576) (b := 1048576) (by omega) (by omega) (by omega) (by omega) (by omega) (by omega) h
  rw [← ev] at c225
  refine hR 60 0 _ _ _ _ _ _ rfl ?_
  refine jcall c225 ?_
  by_cases z : -1048576 ≤ v ∧ v ≤ 1048576
  · rw [if_pos z]
    exact ⟨fun c => absurd c (by decide), fun c => r14 _ z⟩
  · rw [if_neg z]
    exact ⟨fun c => r54 _ (fun q => z q.1), fun c => absurd rfl c⟩
/-- forms that may be asked about -/
def akP (d a b c : Int) : Prop := ((-1073741824 ≤ a ∧ a ≤ 1073741824) ∧ (-1073741824 ≤ b ∧ b ≤ 1073741824) ∧ (-1073741824 ≤ c ∧ c ≤ 1073741824)) ∧ b * b - 4 * a * c = d ∧ (d ≤ 0 → 0 < a) ∧ Int.gcd (Int.gcd a b) c = 1
abbrev l226 (a b c : Int) (x4 : Option Value) : mj_Ls := [some (.ref 1412), some (.int (jI a)), some (.int (jI b)), some (.int (jI c)), x4]
/-- FormHouseModel.ask(III)I; cuts at [14, 28, 42, 65, 74, 78, 95, 99, 100, 102, 113, 116, 123] -/
def cl_226_3 : List mj_E := (127, false, .i2l, 1, 0, 0, 0, 0, 0) ::
  (128, false, .iload_n 3, 1, 0, 0, 0, 0, 0) ::
  (129, false, .i2l, 1, 0, 0, 0, 0, 0) ::
  (130, false, .invokevirtual 236, 3, 220, 3, 17, 0, 0) ::
  (133, false, .aload_n 0, 1, 0, 0, 0, 0, 0) ::
  (134, false, .getfield 297, 3, 17, 23, 0, 0, 0) ::
  (137, false, .ireturn, 1, 0, 0, 0, 0, 0) ::
  []
def cl_226_2 : List mj_E := (86, false, .i2l, 1, 0, 0, 0, 0, 0) ::
  (87, false, .invokestatic 166, 3, 197, 2, 0, 0, 0) ::
  (90, false, .lconst 1, 1, 0, 0, 0, 0, jL 1) ::
  (91, false, .lcmp, 1, 0, 0, 0, 0, 0) ::
  (92, false, .ifCond .ne 7, 3, 55, 0, 0, 0, 0) ::
  (95, true, .iconst 1, 1, 0, 0, 0, jI 1, 0) ::
  (96, false, .goto 4, 3, 56, 0, 0, 0, 0) ::
  (99, true, .iconst 0, 1, 0, 0, 0, jI 0, 0) ::
  (100, true, .istore 4, 2, 0, 0, 0, 0, 0) ::
  (102, true, .aload_n 0, 1, 0, 0, 0, 0, 0) ::
  (103, false, .iload 4, 2, 0, 0, 0, 0, 0) ::
  (105, false, .ifCond .eq 7, 3, 62, 0, 0, 0, 0) ::
  (108, false, .iconst 0, 1, 0, 0, 0, jI 0, 0) ::
  (109, false, .goto 4, 3, 63, 0, 0, 0, 0) ::
  (112, false, .iconst 1, 1, 0, 0, 0, jI 1, 0) ::
  (113, true, .putfield 120, 3, 17, 0, 0, 0, 0) ::
  (116, true, .iload 4, 2, 0, 0, 0, 0, 0) ::
  (118, false, .ifCond .ne 5, 3, 68, 0, 0, 0, 0) ::
  (121, false, .iconst 0, 1, 0, 0, 0, jI 0, 0) ::
  (122, false, .ireturn, 1, 0, 0, 0, 0, 0) ::
  (123, true, .aload_n 0, 1, 0, 0, 0, 0, 0) ::
  (124, false, .iload_n 1, 1, 0, 0, 0, 0, 0) ::
  (125, false, .i2l, 1, 0, 0, 0, 0, 0) ::
  (126, false, .iload_n 2, 1, 0, 0, 0, 0, 0) ::
  cl_226_3
def cl_226_1 : List mj_E := (50, false, .iload_n 1, 1, 0, 0, 0, 0, 0) ::
  (51, false, .i2l, 1, 0, 0, 0, 0, 0) ::
  (52, false, .lmul, 1, 0, 0, 0, 0, 0) ::
  (53, false, .iload_n 3, 1, 0, 0, 0, 0, 0) ::
  (54, false, .i2l, 1, 0, 0, 0, 0, 0) ::
  (55, false, .lmul, 1, 0, 0, 0, 0, 0) ::
  (56, false, .lsub, 1, 0, 0, 0, 0, 0) ::
  (57, false, .aload_n 0, 1, 0, 0, 0, 0, 0) ::
  (58, false, .getfield 9, 3, 17, 1, 1, 0, 0) ::
  (61, false, .lcmp, 1, 0, 0, 0, 0, 0) ::
  (62, false, .ifCond .ne 37, 3, 55, 0, 0, 0, 0) ::
  (65, true, .aload_n 0, 1, 0, 0, 0, 0, 0) ::
  (66, false, .getfield 9, 3, 17, 1, 1, 0, 0) ::
  (69, false, .lconst 0, 1, 0, 0, 0, 0, jL 0) ::
  (70, false, .lcmp, 1, 0, 0, 0, 0, 0) ::
  (71, false, .ifCond .gt 7, 3, 42, 0, 0, 0, 0) ::
  (74, true, .iload_n 1, 1, 0, 0, 0, 0, 0) ::
  (75, false, .ifCond .le 24, 3, 55, 0, 0, 0, 0) ::
  (78, true, .iload_n 1, 1, 0, 0, 0, 0, 0) ::
  (79, false, .i2l, 1, 0, 0, 0, 0, 0) ::
  (80, false, .iload_n 2, 1, 0, 0, 0, 0, 0) ::
  (81, false, .i2l, 1, 0, 0, 0, 0, 0) ::
  (82, false, .invokestatic 166, 3, 197, 2, 0, 0, 0) ::
  (85, false, .iload_n 3, 1, 0, 0, 0, 0, 0) ::
  cl_226_2
def cl_226_0 : List mj_E := (0, false, .iload_n 1, 1, 0, 0, 0, 0, 0) ::
  (1, false, .i2l, 1, 0, 0, 0, 0, 0) ::
  (2, false, .ldc2_w 309, 3, 0, 0, 0, 0, jL (-1073741824)) ::
  (5, false, .ldc2_w 311, 3, 0, 0, 0, 0, jL 1073741824) ::
  (8, false, .invokestatic 244, 3, 225, 3, 0, 0, 0) ::
  (11, false, .ifCond .eq 88, 3, 55, 0, 0, 0, 0) ::
  (14, true, .iload_n 2, 1, 0, 0, 0, 0, 0) ::
  (15, false, .i2l, 1, 0, 0, 0, 0, 0) ::
  (16, false, .ldc2_w 309, 3, 0, 0, 0, 0, jL (-1073741824)) ::
  (19, false, .ldc2_w 311, 3, 0, 0, 0, 0, jL 1073741824) ::
  (22, false, .invokestatic 244, 3, 225, 3, 0, 0, 0) ::
  (25, false, .ifCond .eq 74, 3, 55, 0, 0, 0, 0) ::
  (28, true, .iload_n 3, 1, 0, 0, 0, 0, 0) ::
  (29, false, .i2l, 1, 0, 0, 0, 0, 0) ::
  (30, false, .ldc2_w 309, 3, 0, 0, 0, 0, jL (-1073741824)) ::
  (33, false, .ldc2_w 311, 3, 0, 0, 0, 0, jL 1073741824) ::
  (36, false, .invokestatic 244, 3, 225, 3, 0, 0, 0) ::
  (39, false, .ifCond .eq 60, 3, 55, 0, 0, 0, 0) ::
  (42, true, .iload_n 2, 1, 0, 0, 0, 0, 0) ::
  (43, false, .i2l, 1, 0, 0, 0, 0, 0) ::
  (44, false, .iload_n 2, 1, 0, 0, 0, 0, 0) ::
  (45, false, .i2l, 1, 0, 0, 0, 0, 0) ::
  (46, false, .lmul, 1, 0, 0, 0, 0, 0) ::
  (47, false, .ldc2_w 138, 3, 0, 0, 0, 0, jL 4) ::
  cl_226_1
def cd_226 : List mj_E := cl_226_0
def cx_226 : mj_X := (1, [], [])
theorem tb_226 : mj_tab (mj_mt 226) cx_226 cd_226 mj_mh [(0, 0, 0), (0, 0, 0), (8051, 0, 0), (8052, 0, 0), (8044, 0, 0), (0, 0, 0), (0, 0, 0), (0, 0, 0), (8051, 0, 0), (8052, 0, 0), (8044, 0, 0), (0, 0, 0), (0, 0, 0), (0, 0, 0), (8051, 0, 0), (8052, 0, 0), (8044, 0, 0), (0, 0, 0), (0, 0, 0), (0, 0, 0), (0, 0, 0), (0, 0, 0), (0, 0, 0), (6224, 0, 0), (0, 0, 0), (0, 0, 0), (0, 0, 0), (0, 0, 0), (0, 0, 0), (0, 0, 0), (0, 0, 0), (0, 0, 0), (7100, 0, 0), (0, 0, 0), (0, 0, 0), (0, 0, 0), (7100, 0, 0), (0, 0, 0), (0, 0, 0), (0, 0, 0), (0, 0, 0), (0, 0, 0), (0, 0, 0), (0, 0, 0), (0, 0, 0), (0, 0, 0), (6236, 0, 0), (0, 0, 0), (0, 0, 0), (6236, 0, 0), (0, 0, 0), (0, 0, 0), (0, 0, 0), (0, 0, 0), (0, 0, 0), (0, 0, 0), (0, 0, 0), (0, 0, 0), (0, 0, 0), (0, 0, 0), (0, 0, 0), (0, 0, 0), (0, 0, 0), (7099, 0, 0), (0, 0, 0), (0, 0, 0), (0, 0, 0), (0, 0, 0), (0, 0, 0), (0, 0, 0), (0, 0, 0), (0, 0, 0), (0, 0, 0), (0, 0, 0), (0, 0, 0), (7087, 0, 0), (0, 0, 0), (7122, 0, 0), (0, 0, 0)] = true := mj_tab_f (by decide +kernel)
theorem ct_226 (G : mj_G) {h : mj_H} (L : isLam h) {d : Int} (hd : -1048576 ≤ d ∧ d ≤ 1048576) (e1 : hJ h 1412 1 = jL d) {a b c : Int} (ha : -2147483648 ≤ a ∧ a < 2147483648) (hb : -2147483648 ≤ b ∧ b < 2147483648) (hc : -2147483648 ≤ c ∧ c < 2147483648) {P : mj_H → Prop} {k : Nat} (ho : akP d a b c → mj_Ct G (mj_mt 220) 0 0 [.ref 1412, .long (jL a), .long (jL b), .long (jL c)] (sI h 1412 0 (jI 0)) (fun oc h' => oc = .returned none ∧ P h' ∧ hI h' 1412 23 = jI k ∧ isLam h')) : mj_Ct G (mj_mt 226) 0 0 [.ref 1412, .int (jI a), .int (jI b), .int (jI c)] h (fun oc h' => (akP d a b c → oc = .returned (some (.int (jI k))) ∧ P h') ∧ (¬ akP d a b c → jB 0 1 h oc h')) := by
  have ea : (jI a).toInt64 = jL a := jI_L (by omega) (by omega)
  have eb : (jI b).toInt64 = jL b := jI_L (by omega) (by omega)
  have ec : (jI c).toInt64 = jL c := jI_L (by omega) (by omega)
  refine mj_Ct_of mj_ok tb_226 rfl rfl (Nat.le_of_ble_eq_true rfl) (fun Run hR => ?_)
  have r123 : ∀ (x4 : Option Value), akP d a b c → Run 123 (l226 a b c x4) [] (sI h 1412 0 (jI 0)) (0, 0) := by
    intro x4 ht
    have ho' := ho ht
    rw [← ea, ← eb, ← ec] at ho'
    refine hR 60 68 _ _ _ _ _ _ rfl ?_
    refine ⟨L.K 1412 rfl, jcallP ho' ?_⟩
    rintro oc h3 ⟨rfl, p3, e7, L3⟩
    refine ⟨L3.K 1412 rfl, fun _ => ⟨?_, p3⟩, fun z => absurd ht z⟩
    rw [e7]
  have r102 : ∀ (v : Int), ((v = 1 ∧ akP d a b c) ∨ (v = 0 ∧ ¬ akP d a b c)) → Run 102 (l226 a b c (some (.int (jI v)))) [] h (0, 0) := by
    rintro v (⟨rfl, ht⟩ | ⟨rfl, ht⟩)
    · have r116 : Run 116 (l226 a b c (some (.int (jI 1)))) [] (sI h 1412 0 (jI 0)) (0, 0) := by
        refine hR 60 64 _ _ _ _ _ _ rfl ?_
        exact ⟨fun c => absurd c (by decide), fun c => r123 _ ht⟩
      have r113 : Run 113 (l226 a b c (some (.int (jI 1)))) [.int (jI 0), .ref 1412] h (0, 0) := by
        refine hR 60 63 _ _ _ _ _ _ rfl ?_
        exact ⟨L.K 1412 rfl, r116⟩
      refine hR 60 57 _ _ _ _ _ _ rfl ?_
      exact ⟨fun c => absurd c (by decide), fun c => r113⟩
    · have r116 : Run 116 (l226 a b c (some (.int (jI 0)))) [] (sI h 1412 0 (jI 1)) (0, 0) := by
        refine hR 60 64 _ _ _ _ _ _ rfl ?_
        exact ⟨fun c => ⟨fun z => absurd z ht, fun _ => ⟨rfl, sI_at _ _ _ _, FrM.code h _⟩⟩, fun c => absurd rfl c⟩
      have r113 : Run 113 (l226 a b c (some (.int (jI 0)))) [.int (jI 1), .ref 1412] h (0, 0) := by
        refine hR 60 63 _ _ _ _ _ _ rfl ?_
        exact ⟨L.K 1412 rfl, r116⟩
      refine hR 60 57 _ _ _ _ _ _ rfl ?_
      exact ⟨fun c => r113, fun c => absurd rfl c⟩
  have r100 : ∀ (v : Int) (x4 : Option Value), ((v = 1 ∧ akP d a b c) ∨ (v = 0 ∧ ¬ akP d a b c)) → Run 100 (l226 a b c x4) [.int (jI v)] h (0, 0) := by
    intro v x4 hv
    refine hR 60 56 _ _ _ _ _ _ rfl ?_
    exact r102 v hv
  have r99 : ∀ (x4 : Option Value), ¬ akP d a b c → Run 99 (l226 a b c x4) [] h (0, 0) := by
    intro x4 ht
    refine hR 60 55 _ _ _ _ _ _ rfl ?_
    exact r100 0 _ (Or.inr ⟨rfl, ht⟩)
  have r95 : ∀ (x4 : Option Value), akP d a b c → Run 95 (l226 a b c x4) [] h (0, 0) := by
    intro x4 ht
    refine hR 60 53 _ _ _ _ _ _ rfl ?_
    exact r100 1 _ (Or.inl ⟨rfl, ht⟩)
  have r78 : ∀ (x4 : Option Value), ((-1073741824 ≤ a ∧ a ≤ 1073741824) ∧ (-1073741824 ≤ b ∧ b ≤ 1073741824) ∧ (-1073741824 ≤ c ∧ c ≤ 1073741824)) → b * b - 4 * a * c = d → (d ≤ 0 → 0 < a) → Run 78 (l226 a b c x4) [] h (0, 0) := by
    intro x4 h1 h2 h3
    have c1 := ct_197 G (x := a) (y := b) (by omega) (by omega) (by omega) (by omega) h
    have hg : Int.gcd a b ≤ 1073741824 := by
      by_cases z : a = 0
      · rw [z, Int.gcd_zero_left]
        omega
      · have := Nat.le_of_dvd (by omega) (Int.gcd_dvd_natAbs_left a b)
        omega
    have c2 := ct_197 G (x := (Int.gcd a b : Nat)) (y := c) (by omega) (by omega) (by omega) (by omega) h
    rw [← ea, ← eb] at c1
    rw [← ec] at c2
    have hg2 : Int.gcd (Int.gcd a b : Nat) c ≤ 1073741824 := by
      by_cases z : Int.gcd a b = 0
      · rw [z]
        show Int.gcd 0 c ≤ _
        rw [Int.gcd_zero_left]
        omega
      · have := Nat.le_of_dvd (by omega) (Int.gcd_dvd_natAbs_left (Int.gcd a b : Nat) c)
        omega
    refine hR 60 42 _ _ _ _ _ _ rfl ?_
    refine jcall c1 ?_
    refine jcall c2 ?_
    refine ⟨fun c3 => ?_, fun c3 => ?_⟩
    · simp (disch := omega) only [mj_lcm, jI_lt, jI_le, jI_eq, jL_lt, jL_le, jL_eq, jI_lt0, jI_0le, jI_0lt, jI_le0, jI_eq0, jL_eq0, jI_L, jI_add, jI_sub, jI_mul, jI_neg, jL_add, jL_sub, jL_mul, jL_neg, jL_I, jI_div, jI_mod, jL_div, jL_mod] at c3
      exact r95 _ ⟨h1, h2, h3, by omega⟩
    · simp (disch := omega) only [mj_lcm, jI_lt, jI_le, jI_eq, jL_lt, jL_le, jL_eq, jI_lt0, jI_0le, jI_0lt, jI_le0, jI_eq0, jL_eq0, jI_L, jI_add, jI_sub, jI_mul, jI_neg, jL_add, jL_sub, jL_mul, jL_neg, jL_I, jI_div, jI_mod, jL_div, jL_mod] at c3
      exact r99 _ (fun z => c3 (by have := z.2.2.2; omega))
  have r65 : ∀ (x4 : Option Value), ((-1073741824 ≤ a ∧ a ≤ 1073741824) ∧ (-1073741824 ≤ b ∧ b ≤ 1073741824) ∧ (-1073741824 ≤ c ∧ c ≤ 1073741824)) → b * b - 4 * a * c = d → Run 65 (l226 a b c x4) [] h (0, 0) := by
    intro x4 h1 h2
    have r74 : d ≤ 0 → Run 74 (l226 a b c x4) [] h (0, 0) := by
      intro hd0
      refine hR 60 40 _ _ _ _ _ _ rfl ?_
      refine ⟨fun c3 => ?_, fun c3 => ?_⟩
      · simp (disch := omega) only [mj_lcm, jI_lt, jI_le, jI_eq, jL_lt, jL_le, jL_eq, jI_lt0, jI_0le, jI_0lt, jI_le0, jI_eq0, jL_eq0, jI_L, jI_add, jI_sub, jI_mul, jI_neg, jL_add, jL_sub, jL_mul, jL_neg, jL_I, jI_div, jI_mod, jL_div, jL_mod] at c3
        exact r99 _ (fun z => by have := z.2.2.1 hd0; omega)
      · simp (disch := omega) only [mj_lcm, jI_lt, jI_le, jI_eq, jL_lt, jL_le, jL_eq, jI_lt0, jI_0le, jI_0lt, jI_le0, jI_eq0, jL_eq0, jI_L, jI_add, jI_sub, jI_mul, jI_neg, jL_add, jL_sub, jL_mul, jL_neg, jL_I, jI_div, jI_mod, jL_div, jL_mod] at c3
        exact r78 _ h1 h2 (fun _ => by omega)
    refine hR 60 35 _ _ _ _ _ _ rfl ?_
    refine ⟨L.K 1412 rfl, fun c3 => ?_, fun c3 => ?_⟩
    · simp only [mj_lcm, e1] at c3
      simp (disch := omega) only [mj_lcm, jI_lt, jI_le, jI_eq, jL_lt, jL_le, jL_eq, jI_lt0, jI_0le, jI_0lt, jI_le0, jI_eq0, jL_eq0, jI_L, jI_add, jI_sub, jI_mul, jI_neg, jL_add, jL_sub, jL_mul, jL_neg, jL_I, jI_div, jI_mod, jL_div, jL_mod] at c3
      exact r78 _ h1 h2 (fun z => by omega)
    · simp only [mj_lcm, e1] at c3
      simp (disch := omega) only [mj_lcm, jI_lt, jI_le, jI_eq, jL_lt, jL_le, jL_eq, jI_lt0, jI_0le, jI_0lt, jI_le0, jI_eq0, jL_eq0, jI_L, jI_add, jI_sub, jI_mul, jI_neg, jL_add, jL_sub, jL_mul, jL_neg, jL_I, jI_div, jI_mod, jL_div, jL_mod] at c3
      exact r74 (by omega)
  have r42 : ∀ (x4 : Option Value), ((-1073741824 ≤ a ∧ a ≤ 1073741824) ∧ (-1073741824 ≤ b ∧ b ≤ 1073741824) ∧ (-1073741824 ≤ c ∧ c ≤ 1073741824)) → Run 42 (l226 a b c x4) [] h (0, 0) := by
    intro x4 h1
    have b1 : (b * b).natAbs ≤ 1073741824 * 1073741824 := by
      rw [Int.natAbs_mul]
      exact Nat.mul_le_mul (by omega) (by omega)
    have b2 : (4 * a * c).natAbs ≤ 4294967296 * 1073741824 := by
      rw [Int.natAbs_mul, Int.natAbs_mul]
      exact Nat.mul_le_mul (Nat.mul_le_mul (Nat.le_refl 4) (show a.natAbs ≤ 1073741824 by omega)) (by omega)
    have b3 : -9223372036854775808 ≤ b * b - 4 * a * c ∧ b * b - 4 * a * c < 9223372036854775808 := by
      generalize b * b = X at *
      generalize 4 * a * c = Y at *
      omega
    have e9 : (jI b).toInt64 * (jI b).toInt64 - jL 4 * (jI a).toInt64 * (jI c).toInt64 = jL (b * b - 4 * a * c) := by rw [ea, eb, ec, jL_mul, jL_mul, jL_mul, jL_sub]
    refine hR 60 18 _ _ _ _ _ _ rfl ?_
    refine ⟨L.K 1412 rfl, fun c3 => ?_, fun c3 => ?_⟩
    · rw [e9, e1] at c3
      simp (disch := omega) only [mj_lcm, jI_lt, jI_le, jI_eq, jL_lt, jL_le, jL_eq, jI_lt0, jI_0le, jI_0lt, jI_le0, jI_eq0, jL_eq0, jI_L, jI_add, jI_sub, jI_mul, jI_neg, jL_add, jL_sub, jL_mul, jL_neg, jL_I, jI_div, jI_mod, jL_div, jL_mod] at c3
      exact r65 _ h1 c3
    · rw [e9, e1] at c3
      simp (disch := omega) only [mj_lcm, jI_lt, jI_le, jI_eq, jL_lt, jL_le, jL_eq, jI_lt0, jI_0le, jI_0lt, jI_le0, jI_eq0, jL_eq0, jI_L, jI_add, jI_sub, jI_mul, jI_neg, jL_add, jL_sub, jL_mul, jL_neg, jL_I, jI_div, jI_mod, jL_div, jL_mod] at c3
      exact r99 _ (fun z => c3 z.2.1)
  have inn : ∀ {x : Int}, (-2147483648 ≤ x ∧ x < 2147483648) → mj_Ct G (mj_mt 225) 0 0 [.long (jI x).toInt64, .long (jL (-1073741824)), .long (jL 1073741824)] h (jR (.int (jI (if -1073741824 ≤ x ∧ x ≤ 1073741824 then 1 else 0))) h) := by
    intro x hx
    have e : (jI x).toInt64 = jL x := jI_L (by omega) (by omega)
    rw [e]
    exact ct_225 G (v := x) (a := -1073741824) (b := 1073741824) (by omega) (by omega) (by omega) (by omega) (by omega) (by omega) h
  have r28 : ∀ (x4 : Option Value), (-1073741824 ≤ a ∧ a ≤ 1073741824) → (-1073741824 ≤ b ∧ b ≤ 1073741824) → Run 28 (l226 a b c x4) [] h (0, 0) := by
    intro x4 h1 h2
    refine hR 60 12 _ _ _ _ _ _ rfl ?_
    refine jcall (inn hc) ?_
    by_cases z : -1073741824 ≤ c ∧ c ≤ 1073741824
    · rw [if_pos z]
      exact ⟨fun c => absurd c (by decide), fun c => r42 _ ⟨h1, h2, z⟩⟩
    · rw [if_neg z]
      exact ⟨fun c => r99 _ (fun q => z q.1.2.2), fun c => absurd rfl c⟩
  have r14 : ∀ (x4 : Option Value), (-1073741824 ≤ a ∧ a ≤ 1073741824) → Run 14 (l226 a b c x4) [] h (0, 0) := by
    intro x4 h1
    refine hR 60 6 _ _ _ _ _ _ rfl ?_
    refine jcall (inn hb) ?_
    by_cases z : -1073741824 ≤ b ∧ b ≤ 1073741824
    · rw [if_pos z]
      exact ⟨fun c => absurd c (by decide), fun c => r28 _ h1 z⟩
    · rw [if_neg z]
      exact ⟨fun c => r99 _ (fun q => z q.1.2.1), fun c => absurd rfl c⟩
  refine hR 60 0 _ _ _ _ _ _ rfl ?_
  refine jcall (inn ha) ?_
  by_cases z : -1073741824 ≤ a ∧ a ≤ 1073741824
  · rw [if_pos z]
    exact ⟨fun c => absurd c (by decide), fun c => r14 _ z⟩
  · rw [if_neg z]
    exact ⟨fun c => r99 _ (fun q => z q.1.1), fun c => absurd rfl c⟩
