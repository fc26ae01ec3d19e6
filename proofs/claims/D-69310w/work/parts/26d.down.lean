/-- FormHouse$Reckoner.moveDown(II)V; cuts at [2, 40] -/
def cl_61_1 : List mj_E := (36, false, .goto 4, 3, 26, 0, 0, 0, 0) ::
  (39, false, .lconst 0, 1, 0, 0, 0, 0, jL 0) ::
  (40, true, .bipush 32, 2, 0, 0, 0, jI 32, 0) ::
  (42, false, .lshl, 1, 0, 0, 0, 0, 0) ::
  (43, false, .aload_n 0, 1, 0, 0, 0, 0, 0) ::
  (44, false, .getfield 15, 3, 2, 2, 2, 0, 0) ::
  (47, false, .iload_n 3, 1, 0, 0, 0, 0, 0) ::
  (48, false, .iaload, 1, 0, 0, 0, 0, 0) ::
  (49, false, .i2l, 1, 0, 0, 0, 0, 0) ::
  (50, false, .ldc2_w 67, 3, 0, 0, 0, 0, jL 4294967295) ::
  (53, false, .land, 1, 0, 0, 0, 0, 0) ::
  (54, false, .lor, 1, 0, 0, 0, 0, 0) ::
  (55, false, .iload_n 2, 1, 0, 0, 0, 0, 0) ::
  (56, false, .lushr, 1, 0, 0, 0, 0, 0) ::
  (57, false, .l2i, 1, 0, 0, 0, 0, 0) ::
  (58, false, .iastore, 1, 0, 0, 0, 0, 0) ::
  (59, false, .iinc 3 1, 3, 0, 0, 0, jI 1, 0) ::
  (62, false, .goto (-60), 3, 2, 0, 0, 0, 0) ::
  (65, false, .return_, 1, 0, 0, 0, 0, 0) ::
  []
def cl_61_0 : List mj_E := (0, false, .iconst 0, 1, 0, 0, 0, jI 0, 0) ::
  (1, false, .istore_n 3, 1, 0, 0, 0, 0, 0) ::
  (2, true, .iload_n 3, 1, 0, 0, 0, 0, 0) ::
  (3, false, .iload_n 1, 1, 0, 0, 0, 0, 0) ::
  (4, false, .if_icmp .ge 61, 3, 42, 0, 0, 0, 0) ::
  (7, false, .aload_n 0, 1, 0, 0, 0, 0, 0) ::
  (8, false, .getfield 15, 3, 2, 2, 2, 0, 0) ::
  (11, false, .iload_n 3, 1, 0, 0, 0, 0, 0) ::
  (12, false, .iload_n 3, 1, 0, 0, 0, 0, 0) ::
  (13, false, .iconst 1, 1, 0, 0, 0, jI 1, 0) ::
  (14, false, .iadd, 1, 0, 0, 0, 0, 0) ::
  (15, false, .aload_n 0, 1, 0, 0, 0, 0, 0) ::
  (16, false, .getfield 15, 3, 2, 2, 2, 0, 0) ::
  (19, false, .arraylength, 1, 0, 0, 0, 0, 0) ::
  (20, false, .if_icmp .ge 19, 3, 25, 0, 0, 0, 0) ::
  (23, false, .aload_n 0, 1, 0, 0, 0, 0, 0) ::
  (24, false, .getfield 15, 3, 2, 2, 2, 0, 0) ::
  (27, false, .iload_n 3, 1, 0, 0, 0, 0, 0) ::
  (28, false, .iconst 1, 1, 0, 0, 0, jI 1, 0) ::
  (29, false, .iadd, 1, 0, 0, 0, 0, 0) ::
  (30, false, .iaload, 1, 0, 0, 0, 0, 0) ::
  (31, false, .i2l, 1, 0, 0, 0, 0, 0) ::
  (32, false, .ldc2_w 67, 3, 0, 0, 0, 0, jL 4294967295) ::
  (35, false, .land, 1, 0, 0, 0, 0, 0) ::
  cl_61_1
def cd_61 : List mj_E := cl_61_0
def cx_61 : mj_X := (0, [], [])
theorem tb_61 : mj_tab (mj_mt 61) cx_61 cd_61 mj_mh [(0, 0, 0), (0, 0, 0), (0, 0, 0), (0, 0, 0), (0, 0, 0), (0, 0, 0), (1052, 0, 0), (0, 0, 0), (0, 0, 0), (0, 0, 0), (0, 0, 0), (0, 0, 0), (1052, 0, 0), (0, 0, 0), (0, 0, 0), (0, 0, 0), (1052, 0, 0), (0, 0, 0), (0, 0, 0), (0, 0, 0), (0, 0, 0), (0, 0, 0), (3114, 0, 0), (0, 0, 0), (0, 0, 0), (0, 0, 0), (0, 0, 0), (0, 0, 0), (0, 0, 0), (1052, 0, 0), (0, 0, 0), (0, 0, 0), (0, 0, 0), (3114, 0, 0), (0, 0, 0), (0, 0, 0), (0, 0, 0), (0, 0, 0), (0, 0, 0), (0, 0, 0), (0, 0, 0), (0, 0, 0), (0, 0, 0)] = true := mj_tab_f (by decide +kernel)
theorem ct_61_0 (G : mj_G) {h : mj_H} : mj_Ct G (mj_mt 61) 0 0 [.ref 3, .int (jI 0), .int (jI 30)] h (jV h) := by
  refine mj_Ct_of mj_ok tb_61 rfl rfl (Nat.le_of_ble_eq_true rfl) (fun Run hR => ?_)
  have r2 : Run 2 [some (.ref 3), some (.int (jI 0)), some (.int (jI 30)), some (.int (jI 0))] [] h (0, 0) := by
    refine hR 30 2 _ _ _ _ _ _ rfl ?_
    refine ⟨fun c => ⟨rfl, rfl⟩, fun c => ?_⟩
    simp (disch := omega) only [mj_lcm, jI_lt, jI_le, jI_eq, jL_lt, jL_le, jL_eq, jI_lt0, jI_0le, jI_0lt, jI_le0, jI_eq0, jL_eq0, jI_L, jI_add, jI_sub, jI_mul, jI_neg, jL_add, jL_sub, jL_mul, jL_neg, jL_I, jI_div, jI_mod, jL_div, jL_mod] at c
    omega
  refine hR 30 0 _ _ _ _ _ _ rfl ?_
  exact r2
theorem ct_61_1 (G : mj_G) {h : mj_H} (hk : isRk h) {v : Nat} (h0 : wd (h.1 5 0) = v) (h1 : wd (h.1 5 1) = 0) : mj_Ct G (mj_mt 61) 0 0 [.ref 3, .int (jI 1), .int (jI 30)] h (jV (sI h 5 0 (jI (v / 1073741824 : Nat)))) := by
  have hv : v < 4294967296 := by rw [← h0]; exact wd_lt _
  obtain ⟨k1, k2, k3, k4, k5, k6, k7, k8, k9, k10⟩ := hk
  refine mj_Ct_of mj_ok tb_61 rfl rfl (Nat.le_of_ble_eq_true rfl) (fun Run hR => ?_)
  have r2 : ∀ (h' : mj_H) (kI : Int32), h' = sI h 5 0 (jI (v / 1073741824 : Nat)) → kI = jI 1 → Run 2 [some (.ref 3), some (.int (jI 1)), some (.int (jI 30)), some (.int kI)] [] h' (0, 0) := by
    rintro h' kI rfl rfl
    refine hR 30 2 _ _ _ _ _ _ rfl ?_
    refine ⟨fun c => ⟨rfl, rfl⟩, fun c => ?_⟩
    simp (disch := omega) only [mj_lcm, jI_lt, jI_le, jI_eq, jL_lt, jL_le, jL_eq, jI_lt0, jI_0le, jI_0lt, jI_le0, jI_eq0, jL_eq0, jI_L, jI_add, jI_sub, jI_mul, jI_neg, jL_add, jL_sub, jL_mul, jL_neg, jL_I, jI_div, jI_mod, jL_div, jL_mod] at c
    omega
  have hin0 : vp_in (jI 0) (hN h 5) := by
    rw [k7]
    exact jI_in (by decide) (by decide) (by decide)
  have r40 : ∀ xL : Int64, xL = jL 0 → Run 40 [some (.ref 3), some (.int (jI 1)), some (.int (jI 30)), some (.int (jI 0))] [.long xL, .int (jI 0), .ref 5] h (0, 0) := by
    rintro xL rfl
    refine hR 30 26 _ _ _ _ _ _ rfl ?_
    refine ⟨k1, _, k5, Or.inl k6, hin0, ?_⟩
    rw [show (jI 0).toNatClampNeg = 0 from rfl]
    refine ⟨k6, hin0, ?_⟩
    rw [show (jI 0).toNatClampNeg = 0 from rfl, wd_L, show hI h 5 0 = h.1 5 0 from rfl, h0, jL_shl (K := 32) 32 (by decide) rfl]
    have eo : jL (0 * 2 ^ 32) ||| jL (v : Nat) = jL v := by
      rw [jL_or (k := 32) (by decide) (by omega) (by rw [show (2 : Int) ^ 32 = 4294967296 from rfl]; omega), Int.zero_mul, Int.zero_add]
    rw [eo, jL_ushr (K := 30) 30 (by decide) rfl, jL_I]
    have ev : (v : Int) % 18446744073709551616 / 2 ^ 30 = ((v / 1073741824 : Nat) : Int) := by omega
    rw [ev]
    exact r2 _ _ rfl (jI_add _ _)
  have r0 : Run 2 [some (.ref 3), some (.int (jI 1)), some (.int (jI 30)), some (.int (jI 0))] [] h (0, 0) := by
    refine hR 40 2 _ _ _ _ _ _ rfl ?_
    refine ⟨fun c => ?_, fun c => ?_⟩
    · simp (disch := omega) only [mj_lcm, jI_lt, jI_le, jI_eq, jL_lt, jL_le, jL_eq, jI_lt0, jI_0le, jI_0lt, jI_le0, jI_eq0, jL_eq0, jI_L, jI_add, jI_sub, jI_mul, jI_neg, jL_add, jL_sub, jL_mul, jL_neg, jL_I, jI_div, jI_mod, jL_div, jL_mod] at c
      omega
    · refine ⟨k1, _, k5, k1, _, k5, ⟨by rw [k6]; decide, by rw [k6]; decide⟩, ?_⟩
      rw [k7, show Int32.ofNat 1025 = jI 1025 from rfl]
      refine ⟨fun c2 => ?_, fun c2 => ?_⟩
      · rw [jI_add] at c2
        simp (disch := omega) only [mj_lcm, jI_lt, jI_le, jI_eq, jL_lt, jL_le, jL_eq, jI_lt0, jI_0le, jI_0lt, jI_le0, jI_eq0, jL_eq0, jI_L, jI_add, jI_sub, jI_mul, jI_neg, jL_add, jL_sub, jL_mul, jL_neg, jL_I, jI_div, jI_mod, jL_div, jL_mod] at c2
        omega
      · have hin1 : vp_in (jI 0 + jI 1) (hN h 5) := by
          rw [jI_add, k7]
          exact jI_in (by decide) (by decide) (by decide)
        refine ⟨k1, _, k5, Or.inl k6, hin1, ?_⟩
        refine r40 _ ?_
        have e1 : (jI 0 + jI 1).toNatClampNeg = 1 := by
          rw [jI_add]
          rfl
        rw [e1, wd_L, show hI h 5 1 = h.1 5 1 from rfl, h1]
        rfl
  refine hR 30 0 _ _ _ _ _ _ rfl ?_
  exact r0
