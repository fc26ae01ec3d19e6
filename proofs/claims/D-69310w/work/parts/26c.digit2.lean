/-- FormHouse$Reckoner.digit(II)I; cuts at [79, 91] -/
def cl_56_3 : List mj_E := (113, false, .goto (-22), 3, 59, 0, 0, 0, 0) ::
  (116, false, .lload 7, 2, 0, 0, 0, 0, 0) ::
  (118, false, .l2i, 1, 0, 0, 0, 0, 0) ::
  (119, false, .ireturn, 1, 0, 0, 0, 0, 0) ::
  []
def cl_56_2 : List mj_E := (70, false, .goto 9, 3, 52, 0, 0, 0, 0) ::
  (73, false, .lload_n 3, 1, 0, 0, 0, 0, 0) ::
  (74, false, .lload 5, 2, 0, 0, 0, 0, 0) ::
  (76, false, .invokestatic 92, 3, 57, 2, 0, 0, 0) ::
  (79, true, .lstore 7, 2, 0, 0, 0, 0, 0) ::
  (81, false, .aload_n 0, 1, 0, 0, 0, 0, 0) ::
  (82, false, .iload_n 1, 1, 0, 0, 0, 0, 0) ::
  (83, false, .iload_n 2, 1, 0, 0, 0, 0, 0) ::
  (84, false, .lload 7, 2, 0, 0, 0, 0, 0) ::
  (86, false, .invokevirtual 98, 3, 58, 3, 2, 0, 0) ::
  (89, false, .istore 9, 2, 0, 0, 0, 0, 0) ::
  (91, true, .iload 9, 2, 0, 0, 0, 0, 0) ::
  (93, false, .ifCond .ge 23, 3, 73, 0, 0, 0, 0) ::
  (96, false, .lload 7, 2, 0, 0, 0, 0, 0) ::
  (98, false, .lconst 1, 1, 0, 0, 0, 0, jL 1) ::
  (99, false, .lsub, 1, 0, 0, 0, 0, 0) ::
  (100, false, .lstore 7, 2, 0, 0, 0, 0, 0) ::
  (102, false, .iload 9, 2, 0, 0, 0, 0, 0) ::
  (104, false, .aload_n 0, 1, 0, 0, 0, 0, 0) ::
  (105, false, .iload_n 1, 1, 0, 0, 0, 0, 0) ::
  (106, false, .iload_n 2, 1, 0, 0, 0, 0, 0) ::
  (107, false, .invokevirtual 102, 3, 59, 2, 2, 0, 0) ::
  (110, false, .iadd, 1, 0, 0, 0, 0, 0) ::
  (111, false, .istore 9, 2, 0, 0, 0, 0, 0) ::
  cl_56_3
def cl_56_1 : List mj_E := (33, false, .aload_n 0, 1, 0, 0, 0, 0, 0) ::
  (34, false, .getfield 18, 3, 2, 3, 2, 0, 0) ::
  (37, false, .iload_n 2, 1, 0, 0, 0, 0, 0) ::
  (38, false, .iconst 1, 1, 0, 0, 0, jI 1, 0) ::
  (39, false, .isub, 1, 0, 0, 0, 0, 0) ::
  (40, false, .iaload, 1, 0, 0, 0, 0, 0) ::
  (41, false, .i2l, 1, 0, 0, 0, 0, 0) ::
  (42, false, .ldc2_w 67, 3, 0, 0, 0, 0, jL 4294967295) ::
  (45, false, .land, 1, 0, 0, 0, 0, 0) ::
  (46, false, .lstore 5, 2, 0, 0, 0, 0, 0) ::
  (48, false, .aload_n 0, 1, 0, 0, 0, 0, 0) ::
  (49, false, .getfield 15, 3, 2, 2, 2, 0, 0) ::
  (52, false, .iload_n 1, 1, 0, 0, 0, 0, 0) ::
  (53, false, .iload_n 2, 1, 0, 0, 0, 0, 0) ::
  (54, false, .iadd, 1, 0, 0, 0, 0, 0) ::
  (55, false, .iaload, 1, 0, 0, 0, 0, 0) ::
  (56, false, .aload_n 0, 1, 0, 0, 0, 0, 0) ::
  (57, false, .getfield 18, 3, 2, 3, 2, 0, 0) ::
  (60, false, .iload_n 2, 1, 0, 0, 0, 0, 0) ::
  (61, false, .iconst 1, 1, 0, 0, 0, jI 1, 0) ::
  (62, false, .isub, 1, 0, 0, 0, 0, 0) ::
  (63, false, .iaload, 1, 0, 0, 0, 0, 0) ::
  (64, false, .if_icmp .ne 9, 3, 49, 0, 0, 0, 0) ::
  (67, false, .ldc2_w 67, 3, 0, 0, 0, 0, jL 4294967295) ::
  cl_56_2
def cl_56_0 : List mj_E := (0, false, .aload_n 0, 1, 0, 0, 0, 0, 0) ::
  (1, false, .getfield 15, 3, 2, 2, 2, 0, 0) ::
  (4, false, .iload_n 1, 1, 0, 0, 0, 0, 0) ::
  (5, false, .iload_n 2, 1, 0, 0, 0, 0, 0) ::
  (6, false, .iadd, 1, 0, 0, 0, 0, 0) ::
  (7, false, .iaload, 1, 0, 0, 0, 0, 0) ::
  (8, false, .i2l, 1, 0, 0, 0, 0, 0) ::
  (9, false, .ldc2_w 67, 3, 0, 0, 0, 0, jL 4294967295) ::
  (12, false, .land, 1, 0, 0, 0, 0, 0) ::
  (13, false, .bipush 32, 2, 0, 0, 0, jI 32, 0) ::
  (15, false, .lshl, 1, 0, 0, 0, 0, 0) ::
  (16, false, .aload_n 0, 1, 0, 0, 0, 0, 0) ::
  (17, false, .getfield 15, 3, 2, 2, 2, 0, 0) ::
  (20, false, .iload_n 1, 1, 0, 0, 0, 0, 0) ::
  (21, false, .iload_n 2, 1, 0, 0, 0, 0, 0) ::
  (22, false, .iadd, 1, 0, 0, 0, 0, 0) ::
  (23, false, .iconst 1, 1, 0, 0, 0, jI 1, 0) ::
  (24, false, .isub, 1, 0, 0, 0, 0, 0) ::
  (25, false, .iaload, 1, 0, 0, 0, 0, 0) ::
  (26, false, .i2l, 1, 0, 0, 0, 0, 0) ::
  (27, false, .ldc2_w 67, 3, 0, 0, 0, 0, jL 4294967295) ::
  (30, false, .land, 1, 0, 0, 0, 0, 0) ::
  (31, false, .lor, 1, 0, 0, 0, 0, 0) ::
  (32, false, .lstore_n 3, 1, 0, 0, 0, 0, 0) ::
  cl_56_1
def cd_56 : List mj_E := cl_56_0
def cx_56 : mj_X := (1, [], [])
theorem tb_56 : mj_tab (mj_mt 56) cx_56 cd_56 mj_mh [(0, 0, 0), (1052, 0, 0), (0, 0, 0), (0, 0, 0), (0, 0, 0), (0, 0, 0), (0, 0, 0), (3114, 0, 0), (0, 0, 0), (0, 0, 0), (0, 0, 0), (0, 0, 0), (1052, 0, 0), (0, 0, 0), (0, 0, 0), (0, 0, 0), (0, 0, 0), (0, 0, 0), (0, 0, 0), (0, 0, 0), (3114, 0, 0), (0, 0, 0), (0, 0, 0), (0, 0, 0), (0, 0, 0), (1053, 0, 0), (0, 0, 0), (0, 0, 0), (0, 0, 0), (0, 0, 0), (0, 0, 0), (3114, 0, 0), (0, 0, 0), (0, 0, 0), (0, 0, 0), (1052, 0, 0), (0, 0, 0), (0, 0, 0), (0, 0, 0), (0, 0, 0), (0, 0, 0), (1053, 0, 0), (0, 0, 0), (0, 0, 0), (0, 0, 0), (0, 0, 0), (0, 0, 0), (3114, 0, 0), (0, 0, 0), (0, 0, 0), (0, 0, 0), (4018, 0, 0), (0, 0, 0), (0, 0, 0), (0, 0, 0), (0, 0, 0), (0, 0, 0), (4022, 0, 0), (0, 0, 0), (0, 0, 0), (0, 0, 0), (0, 0, 0), (0, 0, 0), (0, 0, 0), (0, 0, 0), (0, 0, 0), (0, 0, 0), (0, 0, 0), (0, 0, 0), (4026, 0, 0), (0, 0, 0), (0, 0, 0), (0, 0, 0), (0, 0, 0), (0, 0, 0), (0, 0, 0)] = true := mj_tab_f (by decide +kernel)
theorem ct_56 (G : mj_G) {h : mj_H} (hk : isRk h) {k q r0 r1 P rem : Nat} (hk2 : k < 1024) (h0 : wd (h.1 5 k) = r0) (h1 : wd (h.1 5 (k + 1)) = r1) (hby : wd (h.1 6 0) = 2147483648) (hP : P = q * 2147483648) (hq : r1 * 4294967296 + r0 = P + rem) (hrem : rem < 2147483648) (hr1 : r1 < 2147483648) : mj_Ct G (mj_mt 56) 0 0 [.ref 3, .int (jI k), .int (jI 1)] h (jW (.int (jI q)) (sI (sI h 5 k (jI rem)) 5 (k + 1) (jI 0))) := by
  have hr0 : r0 < 4294967296 := by rw [← h0]; exact wd_lt _
  have c58 := ct_58 G hk hk2 h0 h1 hby hP hq hrem hr1
  obtain ⟨k1, k2, k3, k4, k5, k6, k7, k8, k9, k10⟩ := hk
  obtain ⟨X, hX⟩ : ∃ X : Nat, X = r1 * 4294967296 + r0 := ⟨_, rfl⟩
  have hdiv : (X : Int) / 2147483648 = q := by
    have : X = P + rem := hX.trans hq
    rw [this, hP]
    omega
  have hXL : jL r1 <<< ((jI 32).toInt64 &&& 63) ||| jL r0 = jL X := by
    rw [jL_shl (K := 32) 32 (by decide) rfl, jL_or (by decide) (by omega) (by rw [show (2 : Int) ^ 32 = 4294967296 from rfl]; omega), hX, Int.natCast_add, Int.natCast_mul]
    rw [show (2 : Int) ^ 32 = ((4294967296 : Nat) : Int) from rfl]
  have hXb : X < 9223372036854775808 := by omega
  clear hX hP
  refine mj_Ct_of mj_ok tb_56 rfl rfl (Nat.le_of_ble_eq_true rfl) (fun Run hR => ?_)
  have r91 : ∀ (h' : mj_H) (L3 L4 L5 L6 : Option Value), h' = sI (sI h 5 k (jI rem)) 5 (k + 1) (jI 0) → Run 91 [some (.ref 3), some (.int (jI k)), some (.int (jI 1)), L3, L4, L5, L6, some (.long (jL q)), none, some (.int (jI 0))] [] h' (0, 0) := by
    rintro h' L3 L4 L5 L6 rfl
    refine hR 30 59 _ _ _ _ _ _ rfl ?_
    refine ⟨fun c => ?_, fun c => ?_⟩
    · refine jWe ?_
      rw [jL_I]
    · simp (disch := omega) only [mj_lcm, jI_lt, jI_le, jI_eq, jL_lt, jL_le, jL_eq, jI_lt0, jI_0le, jI_0lt, jI_le0, jI_eq0, jL_eq0, jI_L, jI_add, jI_sub, jI_mul, jI_neg, jL_add, jL_sub, jL_mul, jL_neg, jL_I, jI_div, jI_mod, jL_div, jL_mod] at c
      omega
  have r79 : ∀ (L3 L5 : Int64), Run 79 [some (.ref 3), some (.int (jI k)), some (.int (jI 1)), some (.long L3), none, some (.long L5), none, none, none, none] [.long (jL q)] h (0, 0) := by
    intro L3 L5
    refine hR 30 52 _ _ _ _ _ _ rfl ?_
    refine ⟨k1, jcallW c58 ?_⟩
    exact r91 _ _ _ _ _ rfl
  refine hR 80 0 _ _ _ _ _ _ rfl ?_
  have hin : vp_in (jI k + jI 1) (hN h 5) := by
    rw [jI_add, k7]
    exact jI_in (by omega) (by omega) (by omega)
  have hnt : (jI k + jI 1).toNatClampNeg = k + 1 := by
    rw [jI_add, jI_nat (by omega) (by omega)]
    omega
  have hin2 : vp_in (jI k + jI 1 - jI 1) (hN h 5) := by
    rw [jI_add, jI_sub, k7]
    exact jI_in (by omega) (by omega) (by omega)
  have hnt2 : (jI k + jI 1 - jI 1).toNatClampNeg = k := by
    rw [jI_add, jI_sub, jI_nat (by omega) (by omega)]
    omega
  have hin3 : vp_in (jI 1 - jI 1) (hN h 6) := by
    rw [jI_sub, k10]
    exact jI_in (by decide) (by decide) (by decide)
  have hnt3 : (jI 1 - jI 1).toNatClampNeg = 0 := by
    rw [jI_sub]
    rfl
  refine ⟨k1, _, k5, Or.inl k6, hin, k1, _, k5, Or.inl k6, hin2, k1, _, k8, Or.inl k9, hin3, k1, _, k5, Or.inl k6, hin, k1, _, k8, Or.inl k9, hin3, ?_⟩
  rw [hnt, hnt2, hnt3, wd_L, wd_L, wd_L, show hI h 5 (k + 1) = h.1 5 (k + 1) from rfl, show hI h 5 k = h.1 5 k from rfl, show hI h 6 0 = h.1 6 0 from rfl, h0, h1, hby, hXL]
  refine ⟨fun c => ?_, fun c => ?_⟩
  · exfalso
    rw [c, hby] at h1
    omega
  · refine jcall (ct_57 G (by omega) (by omega) (by decide) (by decide) h) ?_
    rw [show ((2147483648 : Nat) : Int) = 2147483648 from rfl, hdiv]
    exact r79 _ _
