/-! a word of the quotient by two -/
/-- FormHouse$Reckoner.takeOff(IIJ)I; cuts at [9, 84, 99] -/
def cl_58_3 : List mj_E := (118, false, .lstore 9, 2, 0, 0, 0, 0, 0) ::
  (120, false, .aload_n 0, 1, 0, 0, 0, 0, 0) ::
  (121, false, .getfield 15, 3, 2, 2, 2, 0, 0) ::
  (124, false, .iload_n 1, 1, 0, 0, 0, 0, 0) ::
  (125, false, .iload_n 2, 1, 0, 0, 0, 0, 0) ::
  (126, false, .iadd, 1, 0, 0, 0, 0, 0) ::
  (127, false, .lload 9, 2, 0, 0, 0, 0, 0) ::
  (129, false, .l2i, 1, 0, 0, 0, 0, 0) ::
  (130, false, .iastore, 1, 0, 0, 0, 0, 0) ::
  (131, false, .lload 9, 2, 0, 0, 0, 0, 0) ::
  (133, false, .lconst 0, 1, 0, 0, 0, 0, jL 0) ::
  (134, false, .lcmp, 1, 0, 0, 0, 0, 0) ::
  (135, false, .ifCond .ge 7, 3, 87, 0, 0, 0, 0) ::
  (138, false, .iconst (-1), 1, 0, 0, 0, jI (-1), 0) ::
  (139, false, .goto 4, 3, 88, 0, 0, 0, 0) ::
  (142, false, .iconst 0, 1, 0, 0, 0, jI 0, 0) ::
  (143, false, .ireturn, 1, 0, 0, 0, 0, 0) ::
  []
def cl_58_2 : List mj_E := (76, false, .ifCond .ge 7, 3, 51, 0, 0, 0, 0) ::
  (79, false, .lconst 1, 1, 0, 0, 0, 0, jL 1) ::
  (80, false, .goto 4, 3, 52, 0, 0, 0, 0) ::
  (83, false, .lconst 0, 1, 0, 0, 0, 0, jL 0) ::
  (84, true, .lstore 7, 2, 0, 0, 0, 0, 0) ::
  (86, false, .lload 5, 2, 0, 0, 0, 0, 0) ::
  (88, false, .bipush 32, 2, 0, 0, 0, jI 32, 0) ::
  (90, false, .lushr, 1, 0, 0, 0, 0, 0) ::
  (91, false, .lstore 5, 2, 0, 0, 0, 0, 0) ::
  (93, false, .iinc 9 1, 3, 0, 0, 0, jI 1, 0) ::
  (96, false, .goto (-87), 3, 6, 0, 0, 0, 0) ::
  (99, true, .aload_n 0, 1, 0, 0, 0, 0, 0) ::
  (100, false, .getfield 15, 3, 2, 2, 2, 0, 0) ::
  (103, false, .iload_n 1, 1, 0, 0, 0, 0, 0) ::
  (104, false, .iload_n 2, 1, 0, 0, 0, 0, 0) ::
  (105, false, .iadd, 1, 0, 0, 0, 0, 0) ::
  (106, false, .iaload, 1, 0, 0, 0, 0, 0) ::
  (107, false, .i2l, 1, 0, 0, 0, 0, 0) ::
  (108, false, .ldc2_w 67, 3, 0, 0, 0, 0, jL 4294967295) ::
  (111, false, .land, 1, 0, 0, 0, 0, 0) ::
  (112, false, .lload 5, 2, 0, 0, 0, 0, 0) ::
  (114, false, .lsub, 1, 0, 0, 0, 0, 0) ::
  (115, false, .lload 7, 2, 0, 0, 0, 0, 0) ::
  (117, false, .lsub, 1, 0, 0, 0, 0, 0) ::
  cl_58_3
def cl_58_1 : List mj_E := (39, false, .iload 9, 2, 0, 0, 0, 0, 0) ::
  (41, false, .iadd, 1, 0, 0, 0, 0, 0) ::
  (42, false, .iaload, 1, 0, 0, 0, 0, 0) ::
  (43, false, .i2l, 1, 0, 0, 0, 0, 0) ::
  (44, false, .ldc2_w 67, 3, 0, 0, 0, 0, jL 4294967295) ::
  (47, false, .land, 1, 0, 0, 0, 0, 0) ::
  (48, false, .lload 5, 2, 0, 0, 0, 0, 0) ::
  (50, false, .ldc2_w 67, 3, 0, 0, 0, 0, jL 4294967295) ::
  (53, false, .land, 1, 0, 0, 0, 0, 0) ::
  (54, false, .lsub, 1, 0, 0, 0, 0, 0) ::
  (55, false, .lload 7, 2, 0, 0, 0, 0, 0) ::
  (57, false, .lsub, 1, 0, 0, 0, 0, 0) ::
  (58, false, .lstore 10, 2, 0, 0, 0, 0, 0) ::
  (60, false, .aload_n 0, 1, 0, 0, 0, 0, 0) ::
  (61, false, .getfield 15, 3, 2, 2, 2, 0, 0) ::
  (64, false, .iload_n 1, 1, 0, 0, 0, 0, 0) ::
  (65, false, .iload 9, 2, 0, 0, 0, 0, 0) ::
  (67, false, .iadd, 1, 0, 0, 0, 0, 0) ::
  (68, false, .lload 10, 2, 0, 0, 0, 0, 0) ::
  (70, false, .l2i, 1, 0, 0, 0, 0, 0) ::
  (71, false, .iastore, 1, 0, 0, 0, 0, 0) ::
  (72, false, .lload 10, 2, 0, 0, 0, 0, 0) ::
  (74, false, .lconst 0, 1, 0, 0, 0, 0, jL 0) ::
  (75, false, .lcmp, 1, 0, 0, 0, 0, 0) ::
  cl_58_2
def cl_58_0 : List mj_E := (0, false, .lconst 0, 1, 0, 0, 0, 0, jL 0) ::
  (1, false, .lstore 5, 2, 0, 0, 0, 0, 0) ::
  (3, false, .lconst 0, 1, 0, 0, 0, 0, jL 0) ::
  (4, false, .lstore 7, 2, 0, 0, 0, 0, 0) ::
  (6, false, .iconst 0, 1, 0, 0, 0, jI 0, 0) ::
  (7, false, .istore 9, 2, 0, 0, 0, 0, 0) ::
  (9, true, .iload 9, 2, 0, 0, 0, 0, 0) ::
  (11, false, .iload_n 2, 1, 0, 0, 0, 0, 0) ::
  (12, false, .if_icmp .ge 87, 3, 59, 0, 0, 0, 0) ::
  (15, false, .lload 5, 2, 0, 0, 0, 0, 0) ::
  (17, false, .lload_n 3, 1, 0, 0, 0, 0, 0) ::
  (18, false, .aload_n 0, 1, 0, 0, 0, 0, 0) ::
  (19, false, .getfield 18, 3, 2, 3, 2, 0, 0) ::
  (22, false, .iload 9, 2, 0, 0, 0, 0, 0) ::
  (24, false, .iaload, 1, 0, 0, 0, 0, 0) ::
  (25, false, .i2l, 1, 0, 0, 0, 0, 0) ::
  (26, false, .ldc2_w 67, 3, 0, 0, 0, 0, jL 4294967295) ::
  (29, false, .land, 1, 0, 0, 0, 0, 0) ::
  (30, false, .lmul, 1, 0, 0, 0, 0, 0) ::
  (31, false, .ladd, 1, 0, 0, 0, 0, 0) ::
  (32, false, .lstore 5, 2, 0, 0, 0, 0, 0) ::
  (34, false, .aload_n 0, 1, 0, 0, 0, 0, 0) ::
  (35, false, .getfield 15, 3, 2, 2, 2, 0, 0) ::
  (38, false, .iload_n 1, 1, 0, 0, 0, 0, 0) ::
  cl_58_1
def cd_58 : List mj_E := cl_58_0
def cx_58 : mj_X := (1, [], [])
theorem tb_58 : mj_tab (mj_mt 58) cx_58 cd_58 mj_mh [(0, 0, 0), (0, 0, 0), (0, 0, 0), (0, 0, 0), (0, 0, 0), (0, 0, 0), (0, 0, 0), (0, 0, 0), (0, 0, 0), (0, 0, 0), (0, 0, 0), (0, 0, 0), (1053, 0, 0), (0, 0, 0), (0, 0, 0), (0, 0, 0), (3114, 0, 0), (0, 0, 0), (0, 0, 0), (0, 0, 0), (0, 0, 0), (0, 0, 0), (1052, 0, 0), (0, 0, 0), (0, 0, 0), (0, 0, 0), (0, 0, 0), (0, 0, 0), (3114, 0, 0), (0, 0, 0), (0, 0, 0), (3114, 0, 0), (0, 0, 0), (0, 0, 0), (0, 0, 0), (0, 0, 0), (0, 0, 0), (0, 0, 0), (1052, 0, 0), (0, 0, 0), (0, 0, 0), (0, 0, 0), (0, 0, 0), (0, 0, 0), (0, 0, 0), (0, 0, 0), (0, 0, 0), (0, 0, 0), (0, 0, 0), (0, 0, 0), (0, 0, 0), (0, 0, 0), (0, 0, 0), (0, 0, 0), (0, 0, 0), (0, 0, 0), (0, 0, 0), (0, 0, 0), (0, 0, 0), (0, 0, 0), (1052, 0, 0), (0, 0, 0), (0, 0, 0), (0, 0, 0), (0, 0, 0), (0, 0, 0), (3114, 0, 0), (0, 0, 0), (0, 0, 0), (0, 0, 0), (0, 0, 0), (0, 0, 0), (0, 0, 0), (0, 0, 0), (1052, 0, 0), (0, 0, 0), (0, 0, 0), (0, 0, 0), (0, 0, 0), (0, 0, 0), (0, 0, 0), (0, 0, 0), (0, 0, 0), (0, 0, 0), (0, 0, 0), (0, 0, 0), (0, 0, 0), (0, 0, 0), (0, 0, 0)] = true := mj_tab_f (by decide +kernel)
/-- the divisor is a word of 2^31 -/
theorem ct_58 (G : mj_G) {h : mj_H} (hk : isRk h) {k q r0 r1 P rem : Nat} (hk2 : k < 1024) (h0 : wd (h.1 5 k) = r0) (h1 : wd (h.1 5 (k + 1)) = r1) (hby : wd (h.1 6 0) = 2147483648) (hP : P = q * 2147483648) (hq : r1 * 4294967296 + r0 = P + rem) (hrem : rem < 2147483648) (hr1 : r1 < 2147483648) : mj_Ct G (mj_mt 58) 0 0 [.ref 3, .int (jI k), .int (jI 1), .long (jL q)] h (jW (.int (jI 0)) (sI (sI h 5 k (jI rem)) 5 (k + 1) (jI 0))) := by
  have hr0 : r0 < 4294967296 := by rw [← h0]; exact wd_lt _
  obtain ⟨k1, k2, k3, k4, k5, k6, k7, k8, k9, k10⟩ := hk
  have ePL : jL q * jL 2147483648 = jL P := by
    rw [jL_mul, hP, Int.natCast_mul]
    rfl
  clear hP
  have hP1 : P < 9223372036854775808 := by omega
  refine mj_Ct_of mj_ok tb_58 rfl rfl (Nat.le_of_ble_eq_true rfl) (fun Run hR => ?_)
  have r99 : ∀ (x9 x10 x11 : Option Value) (bL : Int64), bL = jL (if (r0 : Int) - P % 4294967296 < 0 then 1 else 0) → Run 99 [some (.ref 3), some (.int (jI k)), some (.int (jI 1)), some (.long (jL q)), none, some (.long (jL (P / 4294967296 : Nat))), none, some (.long bL), none, x9, x10, x11] [] (sI h 5 k (jI rem)) (0, 0) := by
    rintro x9 x10 x11 bL rfl
    refine hR 50 59 _ _ _ _ _ _ rfl ?_
    have hin : vp_in (jI k + jI 1) (hN h 5) := by
      rw [jI_add, k7]
      exact jI_in (by omega) (by omega) (by omega)
    have hnt : (jI k + jI 1).toNatClampNeg = k + 1 := by
      rw [jI_add, jI_nat (by omega) (by omega)]
      omega
    refine ⟨k1, _, k5, Or.inl k6, hin, ?_⟩
    rw [hnt, show hI (sI h 5 k (jI rem)) 5 (k + 1) = h.1 5 (k + 1) from sI_k h 5 (by omega) _]
    refine ⟨k1, _, k5, k6, hin, ?_⟩
    rw [hnt, wd_L, h1]
    have hv : jL r1 - jL (P / 4294967296 : Nat) - jL (if (r0 : Int) - P % 4294967296 < 0 then 1 else 0) = jL 0 := by
      rw [jL_sub, jL_sub]
      congr 1
      split <;> omega
    rw [hv]
    refine ⟨fun c => jWh rfl ?_, fun c => ?_⟩
    · rw [jL_I]
    · simp (disch := omega) only [mj_lcm, jI_lt, jI_le, jI_eq, jL_lt, jL_le, jL_eq, jI_lt0, jI_0le, jI_0lt, jI_le0, jI_eq0, jL_eq0, jI_L, jI_add, jI_sub, jI_mul, jI_neg, jL_add, jL_sub, jL_mul, jL_neg, jL_I, jI_div, jI_mod, jL_div, jL_mod] at c
      omega
  have loop1 : ∀ (x10 x11 : Option Value) (cL bL : Int64) (iI : Int32), cL = jL (P / 4294967296 : Nat) → bL = jL (if (r0 : Int) - P % 4294967296 < 0 then 1 else 0) → iI = jI 1 → Run 9 [some (.ref 3), some (.int (jI k)), some (.int (jI 1)), some (.long (jL q)), none, some (.long cL), none, some (.long bL), none, some (.int iI), x10, x11] [] (sI h 5 k (jI rem)) (0, 0) := by
    rintro x10 x11 cL bL iI rfl rfl rfl
    refine hR 50 6 _ _ _ _ _ _ rfl ?_
    refine ⟨fun c => ?_, fun c => ?_⟩
    · exact r99 _ _ _ _ rfl
    · simp (disch := omega) only [mj_lcm, jI_lt, jI_le, jI_eq, jL_lt, jL_le, jL_eq, jI_lt0, jI_0le, jI_0lt, jI_le0, jI_eq0, jL_eq0, jI_L, jI_add, jI_sub, jI_mul, jI_neg, jL_add, jL_sub, jL_mul, jL_neg, jL_I, jI_div, jI_mod, jL_div, jL_mod] at c
      omega
  have r84 : ∀ (x10 x11 : Option Value) (bL bL0 : Int64) (h' : mj_H), bL = jL (if (r0 : Int) - P % 4294967296 < 0 then 1 else 0) → h' = sI h 5 k (jI rem) → Run 84 [some (.ref 3), some (.int (jI k)), some (.int (jI 1)), some (.long (jL q)), none, some (.long (jL P)), none, some (.long bL0), none, some (.int (jI 0)), x10, x11] [.long bL] h' (0, 0) := by
    rintro x10 x11 bL bL0 h' rfl rfl
    refine hR 50 52 _ _ _ _ _ _ rfl ?_
    refine loop1 _ _ _ _ _ ?_ rfl (jI_add _ _)
    rw [jL_ushr (K := 32) 32 (by decide) rfl]
    congr 1
    omega
  have first : ∀ (x10 x11 : Option Value), Run 9 [some (.ref 3), some (.int (jI k)), some (.int (jI 1)), some (.long (jL q)), none, some (.long (jL 0)), none, some (.long (jL 0)), none, some (.int (jI 0)), x10, x11] [] h (0, 0) := by
    intro x10 x11
    refine hR 60 6 _ _ _ _ _ _ rfl ?_
    refine ⟨fun c => ?_, fun c => ?_⟩
    · simp (disch := omega) only [mj_lcm, jI_lt, jI_le, jI_eq, jL_lt, jL_le, jL_eq, jI_lt0, jI_0le, jI_0lt, jI_le0, jI_eq0, jL_eq0, jI_L, jI_add, jI_sub, jI_mul, jI_neg, jL_add, jL_sub, jL_mul, jL_neg, jL_I, jI_div, jI_mod, jL_div, jL_mod] at c
      omega
    · have hin0 : vp_in (jI 0) (hN h 6) := by
        rw [k10]
        exact jI_in (by decide) (by decide) (by decide)
      have hin : vp_in (jI k + jI 0) (hN h 5) := by
        rw [jI_add, k7]
        exact jI_in (by omega) (by omega) (by omega)
      have hnt : (jI k + jI 0).toNatClampNeg = k := by
        rw [jI_add, jI_nat (by omega) (by omega)]
        omega
      refine ⟨k1, _, k8, Or.inl k9, hin0, ?_⟩
      rw [show (jI 0).toNatClampNeg = 0 from rfl]
      refine ⟨k1, _, k5, Or.inl k6, hin, ?_⟩
      rw [hnt]
      refine ⟨k1, _, k5, k6, hin, ?_⟩
      have eP : jL 0 + jL q * jL ((2147483648 : Nat) : Int) = jL P := by
        rw [show ((2147483648 : Nat) : Int) = 2147483648 from rfl, ePL, jL_add, Int.zero_add]
      rw [hnt, wd_L, wd_L, show hI h 6 0 = h.1 6 0 from rfl, show hI h 5 k = h.1 5 k from rfl, hby, h0, eP, jL_mask (k := 32) (by decide) (by decide), jL_sub, jL_sub, jL_I]
      have ed : (r0 : Int) - (P : Int) % 2 ^ 32 - 0 = r0 - P % 4294967296 := by
        rw [Int.sub_zero]
        rfl
      rw [ed]
      have ew : jI ((r0 : Int) - P % 4294967296) = jI rem := by
        apply jI_ext
        rw [jI_tn]
        omega
      rw [ew]
      refine ⟨fun c => ?_, fun c => ?_⟩
      · simp (disch := omega) only [mj_lcm, jI_lt, jI_le, jI_eq, jL_lt, jL_le, jL_eq, jI_lt0, jI_0le, jI_0lt, jI_le0, jI_eq0, jL_eq0, jI_L, jI_add, jI_sub, jI_mul, jI_neg, jL_add, jL_sub, jL_mul, jL_neg, jL_I, jI_div, jI_mod, jL_div, jL_mod] at c
        exact r84 _ _ _ _ _ (by rw [if_neg (by omega)]) rfl
      · simp (disch := omega) only [mj_lcm, jI_lt, jI_le, jI_eq, jL_lt, jL_le, jL_eq, jI_lt0, jI_0le, jI_0lt, jI_le0, jI_eq0, jL_eq0, jI_L, jI_add, jI_sub, jI_mul, jI_neg, jL_add, jL_sub, jL_mul, jL_neg, jL_I, jI_div, jI_mod, jL_div, jL_mod] at c
        exact r84 _ _ _ _ _ (by rw [if_pos (by omega)]) rfl
  refine hR 50 0 _ _ _ _ _ _ rfl ?_
  exact first _ _
