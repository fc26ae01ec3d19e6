/-! the reducer: reduced forms, and the next form -/
/-- whether a form is reduced -/
def rdB (d w a b c : Int) : Bool := if 0 < d then decide (0 < b ∧ b ≤ w ∧ w < 2 * a.natAbs + b ∧ 2 * (a.natAbs : Int) - b ≤ w) else decide ((b.natAbs : Int) ≤ a.natAbs ∧ (a.natAbs : Int) ≤ c ∧ (0 ≤ b ∨ ((b.natAbs : Int) ≠ a.natAbs ∧ (a.natAbs : Int) ≠ c)))
/-- the upper end of the next middle numbers -/
def hiE (d w c : Int) : Int := if d < 0 ∨ w < c.natAbs then c.natAbs else w
/-- the next form's middle number -/
def nbE (d w b c : Int) : Int := hiE d w c - (hiE d w c + b) % (2 * c.natAbs)
theorem nbE_in (d w b c : Int) (hc : c ≠ 0) : hiE d w c - 2 * c.natAbs < nbE d w b c ∧ nbE d w b c ≤ hiE d w c := by
  unfold nbE
  have h1 : 0 ≤ (hiE d w c + b) % (2 * c.natAbs) := Int.emod_nonneg _ (by omega)
  have h2 : (hiE d w c + b) % (2 * c.natAbs) < 2 * c.natAbs := Int.emod_lt_of_pos _ (by omega)
  omega
theorem nbE_bd {d w b c : Int} (hc : c ≠ 0) (hw : -1 ≤ w) : -(c.natAbs : Int) ≤ nbE d w b c + (c.natAbs : Int) ∧ nbE d w b c ≤ c.natAbs ∨ (0 ≤ w ∧ (c.natAbs : Int) ≤ w ∧ w - 2 * c.natAbs < nbE d w b c ∧ nbE d w b c ≤ w) := by
  have h := nbE_in d w b c hc
  unfold hiE at h
  by_cases g : d < 0 ∨ w < c.natAbs
  · rw [if_pos g] at h
    left
    omega
  · rw [if_neg g] at h
    right
    omega
def isRr (h : mj_H) (r : Nat) (d w : Int) : Prop := hK h r = 13 ∧ hJ h r 0 = jL d ∧ hJ h r 1 = jL w
/-- FormHouse$Reducer.isReduced(LFormHouse$Form;)Z; cuts at [] -/
def cl_66_3 : List mj_E := (131, false, .goto 4, 3, 74, 0, 0, 0, 0) ::
  (134, false, .iconst 0, 1, 0, 0, 0, jI 0, 0) ::
  (135, false, .ireturn, 1, 0, 0, 0, 0, 0) ::
  []
def cl_66_2 : List mj_E := (89, false, .lload 4, 2, 0, 0, 0, 0, 0) ::
  (91, false, .lload_n 2, 1, 0, 0, 0, 0, 0) ::
  (92, false, .lcmp, 1, 0, 0, 0, 0, 0) ::
  (93, false, .ifCond .gt 41, 3, 73, 0, 0, 0, 0) ::
  (96, false, .lload_n 2, 1, 0, 0, 0, 0, 0) ::
  (97, false, .aload_n 1, 1, 0, 0, 0, 0, 0) ::
  (98, false, .getfield 34, 3, 6, 2, 1, 0, 0) ::
  (101, false, .lcmp, 1, 0, 0, 0, 0, 0) ::
  (102, false, .ifCond .gt 32, 3, 73, 0, 0, 0, 0) ::
  (105, false, .aload_n 1, 1, 0, 0, 0, 0, 0) ::
  (106, false, .getfield 29, 3, 6, 1, 1, 0, 0) ::
  (109, false, .lconst 0, 1, 0, 0, 0, 0, jL 0) ::
  (110, false, .lcmp, 1, 0, 0, 0, 0, 0) ::
  (111, false, .ifCond .ge 19, 3, 71, 0, 0, 0, 0) ::
  (114, false, .lload 4, 2, 0, 0, 0, 0, 0) ::
  (116, false, .lload_n 2, 1, 0, 0, 0, 0, 0) ::
  (117, false, .lcmp, 1, 0, 0, 0, 0, 0) ::
  (118, false, .ifCond .eq 16, 3, 73, 0, 0, 0, 0) ::
  (121, false, .lload_n 2, 1, 0, 0, 0, 0, 0) ::
  (122, false, .aload_n 1, 1, 0, 0, 0, 0, 0) ::
  (123, false, .getfield 34, 3, 6, 2, 1, 0, 0) ::
  (126, false, .lcmp, 1, 0, 0, 0, 0, 0) ::
  (127, false, .ifCond .eq 7, 3, 73, 0, 0, 0, 0) ::
  (130, false, .iconst 1, 1, 0, 0, 0, jI 1, 0) ::
  cl_66_3
def cl_66_1 : List mj_E := (44, false, .getfield 29, 3, 6, 1, 1, 0, 0) ::
  (47, false, .ladd, 1, 0, 0, 0, 0, 0) ::
  (48, false, .aload_n 0, 1, 0, 0, 0, 0, 0) ::
  (49, false, .getfield 15, 3, 3, 1, 1, 0, 0) ::
  (52, false, .lcmp, 1, 0, 0, 0, 0, 0) ::
  (53, false, .ifCond .le 25, 3, 42, 0, 0, 0, 0) ::
  (56, false, .ldc2_w 32, 3, 0, 0, 0, 0, jL 2) ::
  (59, false, .lload_n 2, 1, 0, 0, 0, 0, 0) ::
  (60, false, .lmul, 1, 0, 0, 0, 0, 0) ::
  (61, false, .aload_n 1, 1, 0, 0, 0, 0, 0) ::
  (62, false, .getfield 29, 3, 6, 1, 1, 0, 0) ::
  (65, false, .lsub, 1, 0, 0, 0, 0, 0) ::
  (66, false, .aload_n 0, 1, 0, 0, 0, 0, 0) ::
  (67, false, .getfield 15, 3, 3, 1, 1, 0, 0) ::
  (70, false, .lcmp, 1, 0, 0, 0, 0, 0) ::
  (71, false, .ifCond .gt 7, 3, 42, 0, 0, 0, 0) ::
  (74, false, .iconst 1, 1, 0, 0, 0, jI 1, 0) ::
  (75, false, .goto 4, 3, 43, 0, 0, 0, 0) ::
  (78, false, .iconst 0, 1, 0, 0, 0, jI 0, 0) ::
  (79, false, .ireturn, 1, 0, 0, 0, 0, 0) ::
  (80, false, .aload_n 1, 1, 0, 0, 0, 0, 0) ::
  (81, false, .getfield 29, 3, 6, 1, 1, 0, 0) ::
  (84, false, .invokestatic 23, 3, 28, 1, 0, 0, 0) ::
  (87, false, .lstore 4, 2, 0, 0, 0, 0, 0) ::
  cl_66_2
def cl_66_0 : List mj_E := (0, false, .aload_n 1, 1, 0, 0, 0, 0, 0) ::
  (1, false, .getfield 18, 3, 6, 0, 1, 0, 0) ::
  (4, false, .invokestatic 23, 3, 28, 1, 0, 0, 0) ::
  (7, false, .lstore_n 2, 1, 0, 0, 0, 0, 0) ::
  (8, false, .aload_n 0, 1, 0, 0, 0, 0, 0) ::
  (9, false, .getfield 7, 3, 3, 0, 1, 0, 0) ::
  (12, false, .lconst 0, 1, 0, 0, 0, 0, jL 0) ::
  (13, false, .lcmp, 1, 0, 0, 0, 0, 0) ::
  (14, false, .ifCond .le 66, 3, 44, 0, 0, 0, 0) ::
  (17, false, .aload_n 1, 1, 0, 0, 0, 0, 0) ::
  (18, false, .getfield 29, 3, 6, 1, 1, 0, 0) ::
  (21, false, .lconst 0, 1, 0, 0, 0, 0, jL 0) ::
  (22, false, .lcmp, 1, 0, 0, 0, 0, 0) ::
  (23, false, .ifCond .le 55, 3, 42, 0, 0, 0, 0) ::
  (26, false, .aload_n 1, 1, 0, 0, 0, 0, 0) ::
  (27, false, .getfield 29, 3, 6, 1, 1, 0, 0) ::
  (30, false, .aload_n 0, 1, 0, 0, 0, 0, 0) ::
  (31, false, .getfield 15, 3, 3, 1, 1, 0, 0) ::
  (34, false, .lcmp, 1, 0, 0, 0, 0, 0) ::
  (35, false, .ifCond .gt 43, 3, 42, 0, 0, 0, 0) ::
  (38, false, .ldc2_w 32, 3, 0, 0, 0, 0, jL 2) ::
  (41, false, .lload_n 2, 1, 0, 0, 0, 0, 0) ::
  (42, false, .lmul, 1, 0, 0, 0, 0, 0) ::
  (43, false, .aload_n 1, 1, 0, 0, 0, 0, 0) ::
  cl_66_1
def cd_66 : List mj_E := cl_66_0
def cx_66 : mj_X := (4, [], [])
theorem tb_66 : mj_tab (mj_mt 66) cx_66 cd_66 mj_mh [(0, 0, 0), (1157, 0, 0), (3092, 0, 0), (0, 0, 0), (0, 0, 0), (1070, 0, 0), (0, 0, 0), (0, 0, 0), (0, 0, 0), (0, 0, 0), (1167, 0, 0), (0, 0, 0), (0, 0, 0), (0, 0, 0), (0, 0, 0), (1167, 0, 0), (0, 0, 0), (1077, 0, 0), (0, 0, 0), (0, 0, 0), (3095, 0, 0), (0, 0, 0), (0, 0, 0), (0, 0, 0), (1167, 0, 0), (0, 0, 0), (0, 0, 0), (1077, 0, 0), (0, 0, 0), (0, 0, 0), (3095, 0, 0), (0, 0, 0), (0, 0, 0), (0, 0, 0), (1167, 0, 0), (0, 0, 0), (0, 0, 0), (1077, 0, 0), (0, 0, 0), (0, 0, 0), (0, 0, 0), (0, 0, 0), (0, 0, 0), (0, 0, 0), (0, 0, 0), (1167, 0, 0), (3092, 0, 0), (0, 0, 0), (0, 0, 0), (0, 0, 0), (0, 0, 0), (0, 0, 0), (0, 0, 0), (0, 0, 0), (1177, 0, 0), (0, 0, 0), (0, 0, 0), (0, 0, 0), (1167, 0, 0), (0, 0, 0), (0, 0, 0), (0, 0, 0), (0, 0, 0), (0, 0, 0), (0, 0, 0), (0, 0, 0), (0, 0, 0), (0, 0, 0), (1177, 0, 0), (0, 0, 0), (0, 0, 0), (0, 0, 0), (0, 0, 0), (0, 0, 0), (0, 0, 0)] = true := mj_tab_f (by decide +kernel)
theorem ct_66 (G : mj_G) {h : mj_H} {r f : Nat} {d w a b c : Int} (hr : isRr h r d w) (hf : isF h f a b c) (hd : -1099511627776 < d ∧ d < 1099511627776) (hw : -1 ≤ w ∧ w < 2147483648) (ha : -2305843009213693952 < a ∧ a < 2305843009213693952) (hb : -2305843009213693952 < b ∧ b < 2305843009213693952) (hc : -9223372036854775808 < c ∧ c < 9223372036854775808) : mj_Ct G (mj_mt 66) 0 0 [.ref r, .ref f] h (jR (.int (jI (if rdB d w a b c then 1 else 0))) h) := by
  obtain ⟨kr, r0, r1⟩ := hr
  obtain ⟨kf, fa, fb, fc⟩ := hf
  refine mj_Ct_of mj_ok tb_66 rfl rfl (Nat.le_of_ble_eq_true rfl) (fun Run hR => ?_)
  refine hR 100 0 _ _ _ _ _ _ rfl ?_
  refine ⟨kf, ?_⟩
  rw [fa]
  refine jcall (ct_28 G (by omega) (by omega) h) ?_
  refine ⟨kr, fun c1 => ?_, fun c1 => ?_⟩
  · simp only [mj_lcm, r0] at c1
    simp (disch := omega) only [mj_lcm, jI_lt, jI_le, jI_eq, jL_lt, jL_le, jL_eq, jI_lt0, jI_0le, jI_0lt, jI_le0, jI_eq0, jL_eq0, jI_L, jI_add, jI_sub, jI_mul, jI_neg, jL_add, jL_sub, jL_mul, jL_neg, jL_I, jI_div, jI_mod, jL_div, jL_mod] at c1
    refine ⟨kf, ?_⟩
    rw [fb]
    refine jcall (ct_28 G (by omega) (by omega) h) ?_
    have e : rdB d w a b c = decide ((b.natAbs : Int) ≤ a.natAbs ∧ (a.natAbs : Int) ≤ c ∧ (0 ≤ b ∨ ((b.natAbs : Int) ≠ a.natAbs ∧ (a.natAbs : Int) ≠ c))) := by
      unfold rdB
      rw [if_neg (by omega)]
    rw [e]
    refine ⟨fun c2 => ⟨Or.inl rfl, ?_⟩, fun c2 => ⟨kf, fun c3 => ⟨Or.inl rfl, ?_⟩, fun c3 => ⟨kf, fun c4 => ⟨Or.inr rfl, ?_⟩, fun c4 => ⟨fun c5 => ⟨Or.inl rfl, ?_⟩, fun c5 => ⟨kf, fun c6 => ⟨Or.inl rfl, ?_⟩, fun c6 => ⟨Or.inr rfl, ?_⟩⟩⟩⟩⟩⟩
    · simp (disch := omega) only [mj_lcm, jI_lt, jI_le, jI_eq, jL_lt, jL_le, jL_eq, jI_lt0, jI_0le, jI_0lt, jI_le0, jI_eq0, jL_eq0, jI_L, jI_add, jI_sub, jI_mul, jI_neg, jL_add, jL_sub, jL_mul, jL_neg, jL_I, jI_div, jI_mod, jL_div, jL_mod] at c2
      rw [if_neg (by simp only [decide_eq_true_eq]; omega)]
      exact jRe rfl
    · simp only [mj_lcm, fc] at c3
      simp (disch := omega) only [mj_lcm, jI_lt, jI_le, jI_eq, jL_lt, jL_le, jL_eq, jI_lt0, jI_0le, jI_0lt, jI_le0, jI_eq0, jL_eq0, jI_L, jI_add, jI_sub, jI_mul, jI_neg, jL_add, jL_sub, jL_mul, jL_neg, jL_I, jI_div, jI_mod, jL_div, jL_mod] at c3
      rw [if_neg (by simp only [decide_eq_true_eq]; omega)]
      exact jRe rfl
    · simp only [mj_lcm, fc, fb] at c3 c4
      simp (disch := omega) only [mj_lcm, jI_lt, jI_le, jI_eq, jL_lt, jL_le, jL_eq, jI_lt0, jI_0le, jI_0lt, jI_le0, jI_eq0, jL_eq0, jI_L, jI_add, jI_sub, jI_mul, jI_neg, jL_add, jL_sub, jL_mul, jL_neg, jL_I, jI_div, jI_mod, jL_div, jL_mod] at c2 c3 c4
      rw [if_pos (by simp only [decide_eq_true_eq]; omega)]
      exact jRe rfl
    · simp only [mj_lcm, fc, fb] at c3 c4
      simp (disch := omega) only [mj_lcm, jI_lt, jI_le, jI_eq, jL_lt, jL_le, jL_eq, jI_lt0, jI_0le, jI_0lt, jI_le0, jI_eq0, jL_eq0, jI_L, jI_add, jI_sub, jI_mul, jI_neg, jL_add, jL_sub, jL_mul, jL_neg, jL_I, jI_div, jI_mod, jL_div, jL_mod] at c2 c3 c4 c5
      rw [if_neg (by simp only [decide_eq_true_eq]; omega)]
      exact jRe rfl
    · simp only [mj_lcm, fc, fb] at c3 c4 c6
      simp (disch := omega) only [mj_lcm, jI_lt, jI_le, jI_eq, jL_lt, jL_le, jL_eq, jI_lt0, jI_0le, jI_0lt, jI_le0, jI_eq0, jL_eq0, jI_L, jI_add, jI_sub, jI_mul, jI_neg, jL_add, jL_sub, jL_mul, jL_neg, jL_I, jI_div, jI_mod, jL_div, jL_mod] at c2 c3 c4 c5 c6
      rw [if_neg (by simp only [decide_eq_true_eq]; omega)]
      exact jRe rfl
    · simp only [mj_lcm, fc, fb] at c3 c4 c6
      simp (disch := omega) only [mj_lcm, jI_lt, jI_le, jI_eq, jL_lt, jL_le, jL_eq, jI_lt0, jI_0le, jI_0lt, jI_le0, jI_eq0, jL_eq0, jI_L, jI_add, jI_sub, jI_mul, jI_neg, jL_add, jL_sub, jL_mul, jL_neg, jL_I, jI_div, jI_mod, jL_div, jL_mod] at c2 c3 c4 c5 c6
      rw [if_pos (by simp only [decide_eq_true_eq]; omega)]
      exact jRe rfl
  · simp only [mj_lcm, r0] at c1
    simp (disch := omega) only [mj_lcm, jI_lt, jI_le, jI_eq, jL_lt, jL_le, jL_eq, jI_lt0, jI_0le, jI_0lt, jI_le0, jI_eq0, jL_eq0, jI_L, jI_add, jI_sub, jI_mul, jI_neg, jL_add, jL_sub, jL_mul, jL_neg, jL_I, jI_div, jI_mod, jL_div, jL_mod] at c1
    have e : rdB d w a b c = decide (0 < b ∧ b ≤ w ∧ w < 2 * a.natAbs + b ∧ 2 * (a.natAbs : Int) - b ≤ w) := by
      unfold rdB
      rw [if_pos (by omega)]
    rw [e]
    refine ⟨kf, fun c2 => ⟨Or.inl rfl, ?_⟩, fun c2 => ⟨kf, kr, fun c3 => ⟨Or.inl rfl, ?_⟩, fun c3 => ⟨kf, kr, fun c4 => ⟨Or.inl rfl, ?_⟩, fun c4 => ⟨kf, kr, fun c5 => ⟨Or.inl rfl, ?_⟩, fun c5 => ⟨Or.inr rfl, ?_⟩⟩⟩⟩⟩
    · simp only [mj_lcm, fb] at c2
      simp (disch := omega) only [mj_lcm, jI_lt, jI_le, jI_eq, jL_lt, jL_le, jL_eq, jI_lt0, jI_0le, jI_0lt, jI_le0, jI_eq0, jL_eq0, jI_L, jI_add, jI_sub, jI_mul, jI_neg, jL_add, jL_sub, jL_mul, jL_neg, jL_I, jI_div, jI_mod, jL_div, jL_mod] at c2
      rw [if_neg (by simp only [decide_eq_true_eq]; omega)]
      exact jRe rfl
    · simp only [mj_lcm, fb, r1] at c2 c3
      simp (disch := omega) only [mj_lcm, jI_lt, jI_le, jI_eq, jL_lt, jL_le, jL_eq, jI_lt0, jI_0le, jI_0lt, jI_le0, jI_eq0, jL_eq0, jI_L, jI_add, jI_sub, jI_mul, jI_neg, jL_add, jL_sub, jL_mul, jL_neg, jL_I, jI_div, jI_mod, jL_div, jL_mod] at c2 c3
      rw [if_neg (by simp only [decide_eq_true_eq]; omega)]
      exact jRe rfl
    · simp only [mj_lcm, fb, r1] at c2 c3 c4
      simp (disch := omega) only [mj_lcm, jI_lt, jI_le, jI_eq, jL_lt, jL_le, jL_eq, jI_lt0, jI_0le, jI_0lt, jI_le0, jI_eq0, jL_eq0, jI_L, jI_add, jI_sub, jI_mul, jI_neg, jL_add, jL_sub, jL_mul, jL_neg, jL_I, jI_div, jI_mod, jL_div, jL_mod] at c2 c3 c4
      rw [if_neg (by simp only [decide_eq_true_eq]; omega)]
      exact jRe rfl
    · simp only [mj_lcm, fb, r1] at c2 c3 c4 c5
      simp (disch := omega) only [mj_lcm, jI_lt, jI_le, jI_eq, jL_lt, jL_le, jL_eq, jI_lt0, jI_0le, jI_0lt, jI_le0, jI_eq0, jL_eq0, jI_L, jI_add, jI_sub, jI_mul, jI_neg, jL_add, jL_sub, jL_mul, jL_neg, jL_I, jI_div, jI_mod, jL_div, jL_mod] at c2 c3 c4 c5
      rw [if_neg (by simp only [decide_eq_true_eq]; omega)]
      exact jRe rfl
    · simp only [mj_lcm, fb, r1] at c2 c3 c4 c5
      simp (disch := omega) only [mj_lcm, jI_lt, jI_le, jI_eq, jL_lt, jL_le, jL_eq, jI_lt0, jI_0le, jI_0lt, jI_le0, jI_eq0, jL_eq0, jI_L, jI_add, jI_sub, jI_mul, jI_neg, jL_add, jL_sub, jL_mul, jL_neg, jL_I, jI_div, jI_mod, jL_div, jL_mod] at c2 c3 c4 c5
      rw [if_pos (by simp only [decide_eq_true_eq]; omega)]
      exact jRe rfl
/-- FormHouse$Reducer.goOn(LFormHouse$Form;)J; cuts at [41, 88] -/
def cl_27_3 : List mj_E := (132, false, .invokevirtual 43, 3, 24, 3, 6, 0, 0) ::
  (135, false, .lload 6, 2, 0, 0, 0, 0, 0) ::
  (137, false, .lreturn, 1, 0, 0, 0, 0, 0) ::
  []
def cl_27_2 : List mj_E := (89, false, .getfield 29, 3, 6, 1, 1, 0, 0) ::
  (92, false, .lload 4, 2, 0, 0, 0, 0, 0) ::
  (94, false, .ladd, 1, 0, 0, 0, 0, 0) ::
  (95, false, .ldc2_w 32, 3, 0, 0, 0, 0, jL 2) ::
  (98, false, .aload_n 1, 1, 0, 0, 0, 0, 0) ::
  (99, false, .getfield 34, 3, 6, 2, 1, 0, 0) ::
  (102, false, .lmul, 1, 0, 0, 0, 0, 0) ::
  (103, false, .ldiv, 1, 0, 0, 0, 0, 0) ::
  (104, false, .lstore 6, 2, 0, 0, 0, 0, 0) ::
  (106, false, .aload_n 1, 1, 0, 0, 0, 0, 0) ::
  (107, false, .aload_n 1, 1, 0, 0, 0, 0, 0) ::
  (108, false, .getfield 34, 3, 6, 2, 1, 0, 0) ::
  (111, false, .lload 4, 2, 0, 0, 0, 0, 0) ::
  (113, false, .lload 4, 2, 0, 0, 0, 0, 0) ::
  (115, false, .lload 4, 2, 0, 0, 0, 0, 0) ::
  (117, false, .lmul, 1, 0, 0, 0, 0, 0) ::
  (118, false, .aload_n 0, 1, 0, 0, 0, 0, 0) ::
  (119, false, .getfield 7, 3, 3, 0, 1, 0, 0) ::
  (122, false, .lsub, 1, 0, 0, 0, 0, 0) ::
  (123, false, .ldc2_w 41, 3, 0, 0, 0, 0, jL 4) ::
  (126, false, .aload_n 1, 1, 0, 0, 0, 0, 0) ::
  (127, false, .getfield 34, 3, 6, 2, 1, 0, 0) ::
  (130, false, .lmul, 1, 0, 0, 0, 0, 0) ::
  (131, false, .ldiv, 1, 0, 0, 0, 0, 0) ::
  cl_27_3
def cl_27_1 : List mj_E := (44, false, .lcmp, 1, 0, 0, 0, 0, 0) ::
  (45, false, .ifCond .le 14, 3, 32, 0, 0, 0, 0) ::
  (48, false, .lload 4, 2, 0, 0, 0, 0, 0) ::
  (50, false, .ldc2_w 32, 3, 0, 0, 0, 0, jL 2) ::
  (53, false, .lload_n 2, 1, 0, 0, 0, 0, 0) ::
  (54, false, .lmul, 1, 0, 0, 0, 0, 0) ::
  (55, false, .lsub, 1, 0, 0, 0, 0, 0) ::
  (56, false, .goto 5, 3, 33, 0, 0, 0, 0) ::
  (59, false, .lload 4, 2, 0, 0, 0, 0, 0) ::
  (61, false, .lstore 4, 2, 0, 0, 0, 0, 0) ::
  (63, false, .goto 25, 3, 47, 0, 0, 0, 0) ::
  (66, false, .aload_n 0, 1, 0, 0, 0, 0, 0) ::
  (67, false, .getfield 15, 3, 3, 1, 1, 0, 0) ::
  (70, false, .aload_n 0, 1, 0, 0, 0, 0, 0) ::
  (71, false, .getfield 15, 3, 3, 1, 1, 0, 0) ::
  (74, false, .lload 4, 2, 0, 0, 0, 0, 0) ::
  (76, false, .lsub, 1, 0, 0, 0, 0, 0) ::
  (77, false, .ldc2_w 32, 3, 0, 0, 0, 0, jL 2) ::
  (80, false, .lload_n 2, 1, 0, 0, 0, 0, 0) ::
  (81, false, .lmul, 1, 0, 0, 0, 0, 0) ::
  (82, false, .invokestatic 37, 3, 29, 2, 0, 0, 0) ::
  (85, false, .lsub, 1, 0, 0, 0, 0, 0) ::
  (86, false, .lstore 4, 2, 0, 0, 0, 0, 0) ::
  (88, true, .aload_n 1, 1, 0, 0, 0, 0, 0) ::
  cl_27_2
def cl_27_0 : List mj_E := (0, false, .aload_n 1, 1, 0, 0, 0, 0, 0) ::
  (1, false, .getfield 34, 3, 6, 2, 1, 0, 0) ::
  (4, false, .invokestatic 23, 3, 28, 1, 0, 0, 0) ::
  (7, false, .lstore_n 2, 1, 0, 0, 0, 0, 0) ::
  (8, false, .aload_n 1, 1, 0, 0, 0, 0, 0) ::
  (9, false, .getfield 29, 3, 6, 1, 1, 0, 0) ::
  (12, false, .lneg, 1, 0, 0, 0, 0, 0) ::
  (13, false, .ldc2_w 32, 3, 0, 0, 0, 0, jL 2) ::
  (16, false, .lload_n 2, 1, 0, 0, 0, 0, 0) ::
  (17, false, .lmul, 1, 0, 0, 0, 0, 0) ::
  (18, false, .invokestatic 37, 3, 29, 2, 0, 0, 0) ::
  (21, false, .lstore 4, 2, 0, 0, 0, 0, 0) ::
  (23, false, .aload_n 0, 1, 0, 0, 0, 0, 0) ::
  (24, false, .getfield 7, 3, 3, 0, 1, 0, 0) ::
  (27, false, .lconst 0, 1, 0, 0, 0, 0, jL 0) ::
  (28, false, .lcmp, 1, 0, 0, 0, 0, 0) ::
  (29, false, .ifCond .lt 12, 3, 22, 0, 0, 0, 0) ::
  (32, false, .lload_n 2, 1, 0, 0, 0, 0, 0) ::
  (33, false, .aload_n 0, 1, 0, 0, 0, 0, 0) ::
  (34, false, .getfield 15, 3, 3, 1, 1, 0, 0) ::
  (37, false, .lcmp, 1, 0, 0, 0, 0, 0) ::
  (38, false, .ifCond .le 28, 3, 35, 0, 0, 0, 0) ::
  (41, true, .lload 4, 2, 0, 0, 0, 0, 0) ::
  (43, false, .lload_n 2, 1, 0, 0, 0, 0, 0) ::
  cl_27_1
def cd_27 : List mj_E := cl_27_0
def cx_27 : mj_X := (2, [], [])
theorem tb_27 : mj_tab (mj_mt 27) cx_27 cd_27 mj_mh [(0, 0, 0), (1177, 0, 0), (3092, 0, 0), (0, 0, 0), (0, 0, 0), (1167, 0, 0), (0, 0, 0), (3095, 0, 0), (0, 0, 0), (0, 0, 0), (3096, 0, 0), (0, 0, 0), (0, 0, 0), (1070, 0, 0), (0, 0, 0), (0, 0, 0), (0, 0, 0), (0, 0, 0), (0, 0, 0), (1077, 0, 0), (0, 0, 0), (0, 0, 0), (0, 0, 0), (0, 0, 0), (0, 0, 0), (0, 0, 0), (0, 0, 0), (3095, 0, 0), (0, 0, 0), (0, 0, 0), (0, 0, 0), (0, 0, 0), (0, 0, 0), (0, 0, 0), (0, 0, 0), (0, 0, 0), (1077, 0, 0), (0, 0, 0), (1077, 0, 0), (0, 0, 0), (0, 0, 0), (3095, 0, 0), (0, 0, 0), (0, 0, 0), (3096, 0, 0), (0, 0, 0), (0, 0, 0), (0, 0, 0), (1167, 0, 0), (0, 0, 0), (0, 0, 0), (3095, 0, 0), (0, 0, 0), (1177, 0, 0), (0, 0, 0), (0, 0, 0), (0, 0, 0), (0, 0, 0), (0, 0, 0), (1177, 0, 0), (0, 0, 0), (0, 0, 0), (0, 0, 0), (0, 0, 0), (0, 0, 0), (1070, 0, 0), (0, 0, 0), (3099, 0, 0), (0, 0, 0), (1177, 0, 0), (0, 0, 0), (0, 0, 0), (3100, 0, 0), (0, 0, 0), (0, 0, 0)] = true := mj_tab_f (by decide +kernel)
/-- the step's number, and the next form's last one -/
def nkE (d w b c : Int) : Int := (b + nbE d w b c).tdiv (2 * c)
def ncE (d w b c : Int) : Int := (nbE d w b c * nbE d w b c - d).tdiv (4 * c)
theorem nbE_sq {d w b c : Int} (hc : c ≠ 0) (hc2 : (c.natAbs : Int) < 2147483648) (hw : -1 ≤ w ∧ w < 2147483648) : -2147483648 ≤ nbE d w b c ∧ nbE d w b c ≤ 2147483648 ∧ 0 ≤ nbE d w b c * nbE d w b c ∧ nbE d w b c * nbE d w b c ≤ 4611686018427387904 := by
  have h := nbE_bd (d := d) (w := w) (b := b) hc hw.1
  have h1 : -2147483648 ≤ nbE d w b c ∧ nbE d w b c ≤ 2147483648 := by
    have := nbE_in d w b c hc
    unfold hiE at this
    by_cases g : d < 0 ∨ w < c.natAbs
    · rw [if_pos g] at this
      omega
    · rw [if_neg g] at this
      omega
  refine ⟨h1.1, h1.2, sqn _, ?_⟩
  generalize nbE d w b c = e at h1
  have h2 : (e.natAbs : Int) ≤ 2147483648 := by omega
  have h3 : e * e = (e.natAbs : Int) * e.natAbs := by
    rw [← Int.natCast_mul, ← Int.natAbs_mul, Int.natAbs_of_nonneg (sqn e)]
  rw [h3]
  exact Int.mul_le_mul h2 h2 (by omega) (by decide)
theorem ct_27 (G : mj_G) {h : mj_H} {r f : Nat} {d w a b c : Int} (hr : isRr h r d w) (hf : isF h f a b c) (hd : -1099511627776 < d ∧ d < 1099511627776) (hw : -1 ≤ w ∧ w < 2147483648) (hb : -2305843009213693952 < b ∧ b < 2305843009213693952) (hc : -2147483648 < c ∧ c < 2147483648) (hc0 : c ≠ 0) : mj_Ct G (mj_mt 27) 0 0 [.ref r, .ref f] h (jW (.long (jL (nkE d w b c))) (sF h f (jL c) (jL (nbE d w b c)) (jL (ncE d w b c)))) := by
  obtain ⟨kr, r0, r1⟩ := hr
  obtain ⟨kf, fa, fb, fc⟩ := hf
  refine mj_Ct_of mj_ok tb_27 rfl rfl (Nat.le_of_ble_eq_true rfl) (fun Run hR => ?_)
  have hsq := nbE_sq (d := d) (w := w) (b := b) hc0 (by omega) hw
  have r88 : ∀ (nL eL : Int64) (x6 x7 : Option Value), eL = jL (nbE d w b c) → Run 88 [some (.ref r), some (.ref f), some (.long nL), none, some (.long eL), none, x6, x7] [] h (0, 0) := by
    rintro nL eL x6 x7 rfl
    refine hR 100 47 _ _ _ _ _ _ rfl ?_
    refine ⟨kf, kf, ?_, ?_⟩
    · rw [fc]
      simp (disch := omega) only [mj_lcm, jI_lt, jI_le, jI_eq, jL_lt, jL_le, jL_eq, jI_lt0, jI_0le, jI_0lt, jI_le0, jI_eq0, jL_eq0, jI_L, jI_add, jI_sub, jI_mul, jI_neg, jL_add, jL_sub, jL_mul, jL_neg, jL_I, jI_div, jI_mod, jL_div, jL_mod]
      omega
    · refine ⟨kf, kr, kf, ?_, ?_⟩
      · rw [fc]
        simp (disch := omega) only [mj_lcm, jI_lt, jI_le, jI_eq, jL_lt, jL_le, jL_eq, jI_lt0, jI_0le, jI_0lt, jI_le0, jI_eq0, jL_eq0, jI_L, jI_add, jI_sub, jI_mul, jI_neg, jL_add, jL_sub, jL_mul, jL_neg, jL_I, jI_div, jI_mod, jL_div, jL_mod]
        omega
      · refine ⟨kf, jcallV (ct_24 G kf _ _ _) ?_⟩
        refine jWh ?_ ?_
        · rw [fb, fc, jL_add, jL_mul, jL_div (by omega) (by omega) (by omega) (by omega)]
          rfl
        · rw [fc, r0, jL_mul, jL_mul, jL_sub, jL_div (by omega) (by omega) (by omega) (by omega)]
          rfl
  refine hR 100 0 _ _ _ _ _ _ rfl ?_
  refine ⟨kf, ?_⟩
  rw [fc]
  refine jcall (ct_28 G (by omega) (by omega) h) ?_
  refine ⟨kf, ?_⟩
  rw [fb]
  have e29 := ct_29 G (x := -b) (y := 2 * (c.natAbs : Int)) (by omega) (by omega) (by omega) (by omega) h
  rw [← jL_neg, ← jL_mul] at e29
  refine jcall e29 ?_
  have hm0 : 0 ≤ -b % (2 * (c.natAbs : Int)) := Int.emod_nonneg _ (by omega)
  have hm1 : -b % (2 * (c.natAbs : Int)) < 2 * c.natAbs := Int.emod_lt_of_pos _ (by omega)
  have hsame : ∀ H : Int, (H - -b % (2 * (c.natAbs : Int))) % (2 * c.natAbs) = (H + b) % (2 * c.natAbs) := by
    intro H
    rw [Int.sub_emod_emod]
    congr 1
    omega
  have key : ∀ e0, e0 = -b % (2 * (c.natAbs : Int)) → (d < 0 ∨ w < c.natAbs) → nbE d w b c = if (c.natAbs : Int) < e0 then e0 - 2 * c.natAbs else e0 := by
    intro e0 he g
    unfold nbE hiE
    rw [if_pos g, ← hsame]
    subst he
    generalize -b % (2 * (c.natAbs : Int)) = t at hm0 hm1
    by_cases g2 : (c.natAbs : Int) < t
    · rw [if_pos g2, show (c.natAbs : Int) - t = (3 * c.natAbs - t) + (2 * c.natAbs) * (-1) by omega, Int.add_mul_emod_self_left, Int.emod_eq_of_lt (by omega) (by omega)]
      omega
    · rw [if_neg g2, Int.emod_eq_of_lt (by omega) (by omega)]
      omega
  have near : (d < 0 ∨ w < c.natAbs) → ∀ x6 x7 : Option Value, Run 41 [some (.ref r), some (.ref f), some (.long (jL (c.natAbs : Int))), none, some (.long (jL (-b % (2 * (c.natAbs : Int))))), none, x6, x7] [] h (0, 0) := by
    intro g x6 x7
    have k1 := key _ rfl g
    generalize -b % (2 * (c.natAbs : Int)) = t at hm0 hm1 k1
    refine hR 100 22 _ _ _ _ _ _ rfl ?_
    refine ⟨fun c1 => ?_, fun c1 => ?_⟩
    · simp (disch := omega) only [mj_lcm, jI_lt, jI_le, jI_eq, jL_lt, jL_le, jL_eq, jI_lt0, jI_0le, jI_0lt, jI_le0, jI_eq0, jL_eq0, jI_L, jI_add, jI_sub, jI_mul, jI_neg, jL_add, jL_sub, jL_mul, jL_neg, jL_I, jI_div, jI_mod, jL_div, jL_mod] at c1
      exact r88 _ _ _ _ (by rw [k1, if_neg (by omega)])
    · simp (disch := omega) only [mj_lcm, jI_lt, jI_le, jI_eq, jL_lt, jL_le, jL_eq, jI_lt0, jI_0le, jI_0lt, jI_le0, jI_eq0, jL_eq0, jI_L, jI_add, jI_sub, jI_mul, jI_neg, jL_add, jL_sub, jL_mul, jL_neg, jL_I, jI_div, jI_mod, jL_div, jL_mod] at c1
      exact r88 _ _ _ _ (by rw [k1, if_pos (by omega), jL_mul, jL_sub])
  refine ⟨kr, fun c1 => ?_, fun c1 => ⟨kr, fun c2 => ?_, fun c2 => ?_⟩⟩
  · simp only [mj_lcm, r0] at c1
    simp (disch := omega) only [mj_lcm, jI_lt, jI_le, jI_eq, jL_lt, jL_le, jL_eq, jI_lt0, jI_0le, jI_0lt, jI_le0, jI_eq0, jL_eq0, jI_L, jI_add, jI_sub, jI_mul, jI_neg, jL_add, jL_sub, jL_mul, jL_neg, jL_I, jI_div, jI_mod, jL_div, jL_mod] at c1
    exact near (Or.inl c1) _ _
  · simp only [mj_lcm, r0, r1] at c1 c2
    simp (disch := omega) only [mj_lcm, jI_lt, jI_le, jI_eq, jL_lt, jL_le, jL_eq, jI_lt0, jI_0le, jI_0lt, jI_le0, jI_eq0, jL_eq0, jI_L, jI_add, jI_sub, jI_mul, jI_neg, jL_add, jL_sub, jL_mul, jL_neg, jL_I, jI_div, jI_mod, jL_div, jL_mod] at c1 c2
    refine ⟨kr, kr, ?_⟩
    rw [r1]
    have e29b := ct_29 G (x := w - -b % (2 * (c.natAbs : Int))) (y := 2 * (c.natAbs : Int)) (by omega) (by omega) (by omega) (by omega) h
    rw [← jL_sub, ← jL_mul] at e29b
    refine jcall e29b ?_
    refine r88 _ _ _ _ ?_
    rw [jL_sub, hsame]
    unfold nbE hiE
    rw [if_neg (by omega)]
  · simp only [mj_lcm, r0, r1] at c1 c2
    simp (disch := omega) only [mj_lcm, jI_lt, jI_le, jI_eq, jL_lt, jL_le, jL_eq, jI_lt0, jI_0le, jI_0lt, jI_le0, jI_eq0, jL_eq0, jI_L, jI_add, jI_sub, jI_mul, jI_neg, jL_add, jL_sub, jL_mul, jL_neg, jL_I, jI_div, jI_mod, jL_div, jL_mod] at c1 c2
    exact near (Or.inr (by omega)) _ _
