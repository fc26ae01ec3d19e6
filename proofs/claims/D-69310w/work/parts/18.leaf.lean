/-! contracts: small functions that only reckon -/
theorem sqn (u : Int) : 0 ≤ u * u := by
  rcases Int.le_total 0 u with h | h
  · exact Int.mul_nonneg h h
  · exact Int.mul_nonneg_of_nonpos_of_nonpos h h
/-- FormHouse$Form.common(JJ)J; cuts at [12] -/
def cd_68 : List mj_E := [(0, false, .lload_n 0, 1, 0, 0, 0, 0, 0),
  (1, false, .invokestatic 29, 3, 28, 1, 0, 0, 0),
  (4, false, .lstore 4, 2, 0, 0, 0, 0, 0),
  (6, false, .lload_n 2, 1, 0, 0, 0, 0, 0),
  (7, false, .invokestatic 29, 3, 28, 1, 0, 0, 0),
  (10, false, .lstore 6, 2, 0, 0, 0, 0, 0),
  (12, true, .lload 6, 2, 0, 0, 0, 0, 0),
  (14, false, .lconst 0, 1, 0, 0, 0, 0, jL 0),
  (15, false, .lcmp, 1, 0, 0, 0, 0, 0),
  (16, false, .ifCond .eq 21, 3, 19, 0, 0, 0, 0),
  (19, false, .lload 4, 2, 0, 0, 0, 0, 0),
  (21, false, .lload 6, 2, 0, 0, 0, 0, 0),
  (23, false, .lrem, 1, 0, 0, 0, 0, 0),
  (24, false, .lstore 8, 2, 0, 0, 0, 0, 0),
  (26, false, .lload 6, 2, 0, 0, 0, 0, 0),
  (28, false, .lstore 4, 2, 0, 0, 0, 0, 0),
  (30, false, .lload 8, 2, 0, 0, 0, 0, 0),
  (32, false, .lstore 6, 2, 0, 0, 0, 0, 0),
  (34, false, .goto (-22), 3, 6, 0, 0, 0, 0),
  (37, false, .lload 4, 2, 0, 0, 0, 0, 0),
  (39, false, .lreturn, 1, 0, 0, 0, 0, 0)]
def cx_68 : mj_X := (2, [], [])
theorem tb_68 : mj_tab (mj_mt 68) cx_68 cd_68 mj_mh [(0, 0, 0), (4069, 0, 0), (0, 0, 0), (0, 0, 0), (4069, 0, 0), (0, 0, 0), (0, 0, 0), (0, 0, 0), (0, 0, 0), (0, 0, 0), (0, 0, 0), (0, 0, 0), (0, 0, 0), (0, 0, 0), (0, 0, 0), (0, 0, 0), (0, 0, 0), (0, 0, 0), (0, 0, 0), (0, 0, 0), (0, 0, 0)] = true := mj_tab_f (by decide +kernel)
theorem ct_68 (G : mj_G) {x y : Int} (h1 : -9223372036854775808 < x) (h2 : x < 9223372036854775808) (h3 : -9223372036854775808 < y) (h4 : y < 9223372036854775808) (h : mj_H) : mj_Ct G (mj_mt 68) 0 0 [.long (jL x), .long (jL y)] h (jR (.long (jL (Int.gcd x y))) h) := by
  refine mj_Ct_of mj_ok tb_68 rfl rfl (Nat.le_of_ble_eq_true rfl) (fun Run hR => ?_)
  have loop : ∀ (n u v : Nat) (uL vL : Int64) (r8 r9 : Option Value), v = n → u < 9223372036854775808 → v < 9223372036854775808 → Nat.gcd u v = Int.gcd x y → uL = jL u → vL = jL v → Run 12 [some (.long (jL x)), none, some (.long (jL y)), none, some (.long uL), none, some (.long vL), none, r8, r9] [] h (0, 0) := by
    intro n
    induction n using Nat.strongRecOn with
    | ind n ih =>
      rintro u v uL vL r8 r9 hn hu hv hg rfl rfl
      refine hR 30 6 _ _ _ _ _ _ rfl ?_
      refine ⟨fun c => ?_, fun c => ⟨c, ?_⟩⟩
      · simp (disch := omega) only [mj_lcm, jI_lt, jI_le, jI_eq, jL_lt, jL_le, jL_eq, jI_lt0, jI_0le, jI_0lt, jI_le0, jI_eq0, jL_eq0, jI_L, jI_add, jI_sub, jI_mul, jI_neg, jL_add, jL_sub, jL_mul, jL_neg, jL_I, jI_div, jI_mod, jL_div, jL_mod] at c
        refine jRe ?_
        rw [← hg, show v = 0 by omega, Nat.gcd_zero_right]
      · simp (disch := omega) only [mj_lcm, jI_lt, jI_le, jI_eq, jL_lt, jL_le, jL_eq, jI_lt0, jI_0le, jI_0lt, jI_le0, jI_eq0, jL_eq0, jI_L, jI_add, jI_sub, jI_mul, jI_neg, jL_add, jL_sub, jL_mul, jL_neg, jL_I, jI_div, jI_mod, jL_div, jL_mod] at c
        refine ih (u % v) ?_ v (u % v) _ _ _ _ rfl hv ?_ ?_ rfl ?_
        · rw [← hn]
          exact Nat.mod_lt _ (by omega)
        · exact Nat.lt_of_le_of_lt (Nat.mod_le _ _) hu
        · rw [← hg, Nat.gcd_comm u v]
          exact (Nat.gcd_rec v u).symm ▸ (Nat.gcd_comm _ _)
        · rw [jL_mod (by omega) (by omega) (by omega) (by omega)]
          rfl
  refine hR 30 0 _ _ _ _ _ _ rfl ?_
  refine jcall (ct_28 G h1 h2 h) ?_
  refine jcall (ct_28 G h3 h4 h) ?_
  exact loop _ _ _ _ _ _ _ rfl (by omega) (by omega) rfl rfl rfl
/-- FormHouseModel.size(J)J; cuts at [] -/
def cd_196 : List mj_E := [(0, false, .lload_n 0, 1, 0, 0, 0, 0, 0),
  (1, false, .lconst 0, 1, 0, 0, 0, 0, jL 0),
  (2, false, .lcmp, 1, 0, 0, 0, 0, 0),
  (3, false, .ifCond .ge 8, 3, 7, 0, 0, 0, 0),
  (6, false, .lload_n 0, 1, 0, 0, 0, 0, 0),
  (7, false, .lneg, 1, 0, 0, 0, 0, 0),
  (8, false, .goto 4, 3, 8, 0, 0, 0, 0),
  (11, false, .lload_n 0, 1, 0, 0, 0, 0, 0),
  (12, false, .lreturn, 1, 0, 0, 0, 0, 0)]
def cx_196 : mj_X := (2, [], [])
theorem tb_196 : mj_tab (mj_mt 196) cx_196 cd_196 mj_mh [(0, 0, 0), (0, 0, 0), (0, 0, 0), (0, 0, 0), (0, 0, 0), (0, 0, 0), (0, 0, 0), (0, 0, 0), (0, 0, 0)] = true := mj_tab_f (by decide +kernel)
theorem ct_196 (G : mj_G) {x : Int} (h1 : -9223372036854775808 < x) (h2 : x < 9223372036854775808) (h : mj_H) : mj_Ct G (mj_mt 196) 0 0 [.long (jL x)] h (jR (.long (jL x.natAbs)) h) := by
  refine mj_Ct_of mj_ok tb_196 rfl rfl (Nat.le_of_ble_eq_true rfl) (fun Run hR => ?_)
  refine hR 20 0 _ _ _ _ _ _ rfl ?_
  refine ⟨fun c => ?_, fun c => ?_⟩
  · simp (disch := omega) only [mj_lcm, jI_lt, jI_le, jI_eq, jL_lt, jL_le, jL_eq, jI_lt0, jI_0le, jI_0lt, jI_le0, jI_eq0, jL_eq0, jI_L, jI_add, jI_sub, jI_mul, jI_neg, jL_add, jL_sub, jL_mul, jL_neg, jL_I, jI_div, jI_mod, jL_div, jL_mod] at c
    refine jRe ?_
    rw [show (x.natAbs : Int) = x by omega]
  · simp (disch := omega) only [mj_lcm, jI_lt, jI_le, jI_eq, jL_lt, jL_le, jL_eq, jI_lt0, jI_0le, jI_0lt, jI_le0, jI_eq0, jL_eq0, jI_L, jI_add, jI_sub, jI_mul, jI_neg, jL_add, jL_sub, jL_mul, jL_neg, jL_I, jI_div, jI_mod, jL_div, jL_mod] at c
    refine jRe ?_
    rw [show (x.natAbs : Int) = -x by omega, ← jL_neg]
/-- FormHouseModel.common(JJ)J; cuts at [12] -/
def cd_197 : List mj_E := [(0, false, .lload_n 0, 1, 0, 0, 0, 0, 0),
  (1, false, .invokestatic 124, 3, 196, 1, 0, 0, 0),
  (4, false, .lstore 4, 2, 0, 0, 0, 0, 0),
  (6, false, .lload_n 2, 1, 0, 0, 0, 0, 0),
  (7, false, .invokestatic 124, 3, 196, 1, 0, 0, 0),
  (10, false, .lstore 6, 2, 0, 0, 0, 0, 0),
  (12, true, .lload 6, 2, 0, 0, 0, 0, 0),
  (14, false, .lconst 0, 1, 0, 0, 0, 0, jL 0),
  (15, false, .lcmp, 1, 0, 0, 0, 0, 0),
  (16, false, .ifCond .le 21, 3, 19, 0, 0, 0, 0),
  (19, false, .lload 4, 2, 0, 0, 0, 0, 0),
  (21, false, .lload 6, 2, 0, 0, 0, 0, 0),
  (23, false, .lrem, 1, 0, 0, 0, 0, 0),
  (24, false, .lstore 8, 2, 0, 0, 0, 0, 0),
  (26, false, .lload 6, 2, 0, 0, 0, 0, 0),
  (28, false, .lstore 4, 2, 0, 0, 0, 0, 0),
  (30, false, .lload 8, 2, 0, 0, 0, 0, 0),
  (32, false, .lstore 6, 2, 0, 0, 0, 0, 0),
  (34, false, .goto (-22), 3, 6, 0, 0, 0, 0),
  (37, false, .lload 4, 2, 0, 0, 0, 0, 0),
  (39, false, .lreturn, 1, 0, 0, 0, 0, 0)]
def cx_197 : mj_X := (2, [], [])
theorem tb_197 : mj_tab (mj_mt 197) cx_197 cd_197 mj_mh [(0, 0, 0), (6233, 0, 0), (0, 0, 0), (0, 0, 0), (6233, 0, 0), (0, 0, 0), (0, 0, 0), (0, 0, 0), (0, 0, 0), (0, 0, 0), (0, 0, 0), (0, 0, 0), (0, 0, 0), (0, 0, 0), (0, 0, 0), (0, 0, 0), (0, 0, 0), (0, 0, 0), (0, 0, 0), (0, 0, 0), (0, 0, 0)] = true := mj_tab_f (by decide +kernel)
theorem ct_197 (G : mj_G) {x y : Int} (h1 : -9223372036854775808 < x) (h2 : x < 9223372036854775808) (h3 : -9223372036854775808 < y) (h4 : y < 9223372036854775808) (h : mj_H) : mj_Ct G (mj_mt 197) 0 0 [.long (jL x), .long (jL y)] h (jR (.long (jL (Int.gcd x y))) h) := by
  refine mj_Ct_of mj_ok tb_197 rfl rfl (Nat.le_of_ble_eq_true rfl) (fun Run hR => ?_)
  have loop : ∀ (n u v : Nat) (uL vL : Int64) (r8 r9 : Option Value), v = n → u < 9223372036854775808 → v < 9223372036854775808 → Nat.gcd u v = Int.gcd x y → uL = jL u → vL = jL v → Run 12 [some (.long (jL x)), none, some (.long (jL y)), none, some (.long uL), none, some (.long vL), none, r8, r9] [] h (0, 0) := by
    intro n
    induction n using Nat.strongRecOn with
    | ind n ih =>
      rintro u v uL vL r8 r9 hn hu hv hg rfl rfl
      refine hR 30 6 _ _ _ _ _ _ rfl ?_
      refine ⟨fun c => ?_, fun c => ⟨?_, ?_⟩⟩
      · simp (disch := omega) only [mj_lcm, jI_lt, jI_le, jI_eq, jL_lt, jL_le, jL_eq, jI_lt0, jI_0le, jI_0lt, jI_le0, jI_eq0, jL_eq0, jI_L, jI_add, jI_sub, jI_mul, jI_neg, jL_add, jL_sub, jL_mul, jL_neg, jL_I, jI_div, jI_mod, jL_div, jL_mod] at c
        refine jRe ?_
        rw [← hg, show v = 0 by omega, Nat.gcd_zero_right]
      · simp (disch := omega) only [mj_lcm, jI_lt, jI_le, jI_eq, jL_lt, jL_le, jL_eq, jI_lt0, jI_0le, jI_0lt, jI_le0, jI_eq0, jL_eq0, jI_L, jI_add, jI_sub, jI_mul, jI_neg, jL_add, jL_sub, jL_mul, jL_neg, jL_I, jI_div, jI_mod, jL_div, jL_mod] at c ⊢
        omega
      · simp (disch := omega) only [mj_lcm, jI_lt, jI_le, jI_eq, jL_lt, jL_le, jL_eq, jI_lt0, jI_0le, jI_0lt, jI_le0, jI_eq0, jL_eq0, jI_L, jI_add, jI_sub, jI_mul, jI_neg, jL_add, jL_sub, jL_mul, jL_neg, jL_I, jI_div, jI_mod, jL_div, jL_mod] at c
        refine ih (u % v) ?_ v (u % v) _ _ _ _ rfl hv ?_ ?_ rfl ?_
        · rw [← hn]
          exact Nat.mod_lt _ (by omega)
        · exact Nat.lt_of_le_of_lt (Nat.mod_le _ _) hu
        · rw [← hg, Nat.gcd_comm u v]
          exact (Nat.gcd_rec v u).symm ▸ (Nat.gcd_comm _ _)
        · rw [jL_mod (by omega) (by omega) (by omega) (by omega)]
          rfl
  refine hR 30 0 _ _ _ _ _ _ rfl ?_
  refine jcall (ct_196 G h1 h2 h) ?_
  refine jcall (ct_196 G h3 h4 h) ?_
  exact loop _ _ _ _ _ _ _ rfl (by omega) (by omega) rfl rfl rfl
/-- FormHouse$Group.common(II)I; cuts at [4] -/
def cd_85 : List mj_E := [(0, false, .iload_n 0, 1, 0, 0, 0, 0, 0),
  (1, false, .istore_n 2, 1, 0, 0, 0, 0, 0),
  (2, false, .iload_n 1, 1, 0, 0, 0, 0, 0),
  (3, false, .istore_n 3, 1, 0, 0, 0, 0, 0),
  (4, true, .iload_n 3, 1, 0, 0, 0, 0, 0),
  (5, false, .ifCond .eq 16, 3, 15, 0, 0, 0, 0),
  (8, false, .iload_n 2, 1, 0, 0, 0, 0, 0),
  (9, false, .iload_n 3, 1, 0, 0, 0, 0, 0),
  (10, false, .irem, 1, 0, 0, 0, 0, 0),
  (11, false, .istore 4, 2, 0, 0, 0, 0, 0),
  (13, false, .iload_n 3, 1, 0, 0, 0, 0, 0),
  (14, false, .istore_n 2, 1, 0, 0, 0, 0, 0),
  (15, false, .iload 4, 2, 0, 0, 0, 0, 0),
  (17, false, .istore_n 3, 1, 0, 0, 0, 0, 0),
  (18, false, .goto (-14), 3, 4, 0, 0, 0, 0),
  (21, false, .iload_n 2, 1, 0, 0, 0, 0, 0),
  (22, false, .ireturn, 1, 0, 0, 0, 0, 0)]
def cx_85 : mj_X := (1, [], [])
theorem tb_85 : mj_tab (mj_mt 85) cx_85 cd_85 mj_mh [(0, 0, 0), (0, 0, 0), (0, 0, 0), (0, 0, 0), (0, 0, 0), (0, 0, 0), (0, 0, 0), (0, 0, 0), (0, 0, 0), (0, 0, 0), (0, 0, 0), (0, 0, 0), (0, 0, 0), (0, 0, 0), (0, 0, 0), (0, 0, 0), (0, 0, 0)] = true := mj_tab_f (by decide +kernel)
theorem ct_85 (G : mj_G) {x y : Nat} (h1 : x < 2147483648) (h2 : y < 2147483648) (h : mj_H) : mj_Ct G (mj_mt 85) 0 0 [.int (jI x), .int (jI y)] h (jR (.int (jI (Nat.gcd x y))) h) := by
  refine mj_Ct_of mj_ok tb_85 rfl rfl (Nat.le_of_ble_eq_true rfl) (fun Run hR => ?_)
  have loop : ∀ (n u v : Nat) (uL vL : Int32) (r8 : Option Value), v = n → u < 2147483648 → v < 2147483648 → Nat.gcd u v = Nat.gcd x y → uL = jI u → vL = jI v → Run 4 [some (.int (jI x)), some (.int (jI y)), some (.int uL), some (.int vL), r8] [] h (0, 0) := by
    intro n
    induction n using Nat.strongRecOn with
    | ind n ih =>
      rintro u v uL vL r8 hn hu hv hg rfl rfl
      refine hR 30 4 _ _ _ _ _ _ rfl ?_
      refine ⟨fun c => ?_, fun c => ⟨c, ?_⟩⟩
      · simp (disch := omega) only [mj_lcm, jI_lt, jI_le, jI_eq, jL_lt, jL_le, jL_eq, jI_lt0, jI_0le, jI_0lt, jI_le0, jI_eq0, jL_eq0, jI_L, jI_add, jI_sub, jI_mul, jI_neg, jL_add, jL_sub, jL_mul, jL_neg, jL_I, jI_div, jI_mod, jL_div, jL_mod] at c
        refine jRe ?_
        rw [← hg, show v = 0 by omega, Nat.gcd_zero_right]
      · simp (disch := omega) only [mj_lcm, jI_lt, jI_le, jI_eq, jL_lt, jL_le, jL_eq, jI_lt0, jI_0le, jI_0lt, jI_le0, jI_eq0, jL_eq0, jI_L, jI_add, jI_sub, jI_mul, jI_neg, jL_add, jL_sub, jL_mul, jL_neg, jL_I, jI_div, jI_mod, jL_div, jL_mod] at c
        refine ih (u % v) ?_ v (u % v) _ _ _ rfl hv ?_ ?_ rfl ?_
        · rw [← hn]
          exact Nat.mod_lt _ (by omega)
        · exact Nat.lt_of_le_of_lt (Nat.mod_le _ _) hu
        · rw [← hg, Nat.gcd_comm u v]
          exact (Nat.gcd_rec v u).symm ▸ (Nat.gcd_comm _ _)
        · rw [jI_mod (by omega) (by omega) (by omega) (by omega)]
          rfl
  refine hR 30 0 _ _ _ _ _ _ rfl ?_
  exact loop _ _ _ _ _ _ rfl h1 h2 rfl rfl rfl
/-- FormHouse.times(JJJ)J; cuts at [] -/
def cd_152 : List mj_E := [(0, false, .lload_n 0, 1, 0, 0, 0, 0, 0),
  (1, false, .lload_n 2, 1, 0, 0, 0, 0, 0),
  (2, false, .lmul, 1, 0, 0, 0, 0, 0),
  (3, false, .lload 4, 2, 0, 0, 0, 0, 0),
  (5, false, .lrem, 1, 0, 0, 0, 0, 0),
  (6, false, .lreturn, 1, 0, 0, 0, 0, 0)]
def cx_152 : mj_X := (2, [], [])
theorem tb_152 : mj_tab (mj_mt 152) cx_152 cd_152 mj_mh [(0, 0, 0), (0, 0, 0), (0, 0, 0), (0, 0, 0), (0, 0, 0), (0, 0, 0)] = true := mj_tab_f (by decide +kernel)
theorem ct_152 (G : mj_G) {a b n : Int} (h1 : 0 ≤ a * b) (h2 : a * b < 9223372036854775808) (h3 : 0 < n) (h4 : n < 9223372036854775808) (h : mj_H) : mj_Ct G (mj_mt 152) 0 0 [.long (jL a), .long (jL b), .long (jL n)] h (jR (.long (jL (a * b % n))) h) := by
  refine mj_Ct_of mj_ok tb_152 rfl rfl (Nat.le_of_ble_eq_true rfl) (fun Run hR => ?_)
  refine hR 20 0 _ _ _ _ _ _ rfl ?_
  refine ⟨?_, ?_⟩
  · simp (disch := omega) only [mj_lcm, jI_lt, jI_le, jI_eq, jL_lt, jL_le, jL_eq, jI_lt0, jI_0le, jI_0lt, jI_le0, jI_eq0, jL_eq0, jI_L, jI_add, jI_sub, jI_mul, jI_neg, jL_add, jL_sub, jL_mul, jL_neg, jL_I, jI_div, jI_mod, jL_div, jL_mod]
    omega
  · refine jRe ?_
    rw [jL_mul, jL_mod (by omega) h2 (by omega) h4, Int.tmod_eq_emod_of_nonneg h1]
/-- FormHouse.raised(II)I; cuts at [4] -/
def cd_146 : List mj_E := [(0, false, .iconst 1, 1, 0, 0, 0, jI 1, 0),
  (1, false, .istore_n 2, 1, 0, 0, 0, 0, 0),
  (2, false, .iconst 0, 1, 0, 0, 0, jI 0, 0),
  (3, false, .istore_n 3, 1, 0, 0, 0, 0, 0),
  (4, true, .iload_n 3, 1, 0, 0, 0, 0, 0),
  (5, false, .iload_n 1, 1, 0, 0, 0, 0, 0),
  (6, false, .if_icmp .ge 13, 3, 13, 0, 0, 0, 0),
  (9, false, .iload_n 2, 1, 0, 0, 0, 0, 0),
  (10, false, .iload_n 0, 1, 0, 0, 0, 0, 0),
  (11, false, .imul, 1, 0, 0, 0, 0, 0),
  (12, false, .istore_n 2, 1, 0, 0, 0, 0, 0),
  (13, false, .iinc 3 1, 3, 0, 0, 0, jI 1, 0),
  (16, false, .goto (-12), 3, 4, 0, 0, 0, 0),
  (19, false, .iload_n 2, 1, 0, 0, 0, 0, 0),
  (20, false, .ireturn, 1, 0, 0, 0, 0, 0)]
def cx_146 : mj_X := (1, [], [])
theorem tb_146 : mj_tab (mj_mt 146) cx_146 cd_146 mj_mh [(0, 0, 0), (0, 0, 0), (0, 0, 0), (0, 0, 0), (0, 0, 0), (0, 0, 0), (0, 0, 0), (0, 0, 0), (0, 0, 0), (0, 0, 0), (0, 0, 0), (0, 0, 0), (0, 0, 0), (0, 0, 0), (0, 0, 0)] = true := mj_tab_f (by decide +kernel)
theorem ct_146 (G : mj_G) {p e : Nat} (h1 : p ^ e < 2147483648) (hp : 0 < p) (he : e < 2147483648) (h : mj_H) : mj_Ct G (mj_mt 146) 0 0 [.int (jI p), .int (jI e)] h (jR (.int (jI (p ^ e : Nat))) h) := by
  refine mj_Ct_of mj_ok tb_146 rfl rfl (Nat.le_of_ble_eq_true rfl) (fun Run hR => ?_)
  have loop : ∀ (n k : Nat) (qI kI : Int32), k + n = e → qI = jI (p ^ k : Nat) → kI = jI k → Run 4 [some (.int (jI p)), some (.int (jI e)), some (.int qI), some (.int kI)] [] h (0, 0) := by
    intro n
    induction n with
    | zero =>
      rintro k qI kI hk rfl rfl
      refine hR 30 4 _ _ _ _ _ _ rfl ?_
      refine ⟨fun c => ?_, fun c => ?_⟩
      · rw [show k = e by omega]
        exact jRe rfl
      · simp (disch := omega) only [mj_lcm, jI_lt, jI_le, jI_eq, jL_lt, jL_le, jL_eq, jI_lt0, jI_0le, jI_0lt, jI_le0, jI_eq0, jL_eq0, jI_L, jI_add, jI_sub, jI_mul, jI_neg, jL_add, jL_sub, jL_mul, jL_neg, jL_I, jI_div, jI_mod, jL_div, jL_mod] at c
        omega
    | succ n ih =>
      rintro k qI kI hk rfl rfl
      refine hR 30 4 _ _ _ _ _ _ rfl ?_
      refine ⟨fun c => ?_, fun c => ?_⟩
      · simp (disch := omega) only [mj_lcm, jI_lt, jI_le, jI_eq, jL_lt, jL_le, jL_eq, jI_lt0, jI_0le, jI_0lt, jI_le0, jI_eq0, jL_eq0, jI_L, jI_add, jI_sub, jI_mul, jI_neg, jL_add, jL_sub, jL_mul, jL_neg, jL_I, jI_div, jI_mod, jL_div, jL_mod] at c
        omega
      · refine ih (k + 1) _ _ (by omega) ?_ ?_
        · rw [jI_mul, Nat.pow_succ, Int.natCast_mul]
        · rw [jI_add]
          rfl
  refine hR 30 0 _ _ _ _ _ _ rfl ?_
  exact loop e 0 _ _ (by omega) rfl rfl
/-- FormHouse$Symbols.two(J)I; cuts at [] -/
def cd_128 : List mj_E := [(0, false, .lload_n 0, 1, 0, 0, 0, 0, 0),
  (1, false, .ldc2_w 7, 3, 0, 0, 0, 0, jL 7),
  (4, false, .land, 1, 0, 0, 0, 0, 0),
  (5, false, .l2i, 1, 0, 0, 0, 0, 0),
  (6, false, .istore_n 2, 1, 0, 0, 0, 0, 0),
  (7, false, .iload_n 2, 1, 0, 0, 0, 0, 0),
  (8, false, .iconst 1, 1, 0, 0, 0, jI 1, 0),
  (9, false, .if_icmp .eq 9, 3, 11, 0, 0, 0, 0),
  (12, false, .iload_n 2, 1, 0, 0, 0, 0, 0),
  (13, false, .bipush 7, 2, 0, 0, 0, jI 7, 0),
  (15, false, .if_icmp .ne 7, 3, 13, 0, 0, 0, 0),
  (18, false, .iconst 1, 1, 0, 0, 0, jI 1, 0),
  (19, false, .goto 4, 3, 14, 0, 0, 0, 0),
  (22, false, .iconst (-1), 1, 0, 0, 0, jI (-1), 0),
  (23, false, .ireturn, 1, 0, 0, 0, 0, 0)]
def cx_128 : mj_X := (1, [], [])
theorem tb_128 : mj_tab (mj_mt 128) cx_128 cd_128 mj_mh [(0, 0, 0), (5185, 0, 0), (0, 0, 0), (0, 0, 0), (0, 0, 0), (0, 0, 0), (0, 0, 0), (0, 0, 0), (0, 0, 0), (0, 0, 0), (0, 0, 0), (0, 0, 0), (0, 0, 0), (0, 0, 0), (0, 0, 0)] = true := mj_tab_f (by decide +kernel)
theorem ct_128 (G : mj_G) {x : Int} (h : mj_H) : mj_Ct G (mj_mt 128) 0 0 [.long (jL x)] h (jR (.int (jI (if x % 8 = 1 ∨ x % 8 = 7 then 1 else -1))) h) := by
  refine mj_Ct_of mj_ok tb_128 rfl rfl (Nat.le_of_ble_eq_true rfl) (fun Run hR => ?_)
  have hm : jL x &&& jL 7 = jL (x % 8) := jL_mask (k := 3) (by decide) rfl
  refine hR 30 0 _ _ _ _ _ _ rfl ?_
  refine ⟨fun c => ?_, fun c => ⟨fun c2 => ?_, fun c2 => ?_⟩⟩
  · rw [hm] at c
    simp (disch := omega) only [mj_lcm, jI_lt, jI_le, jI_eq, jL_lt, jL_le, jL_eq, jI_lt0, jI_0le, jI_0lt, jI_le0, jI_eq0, jL_eq0, jI_L, jI_add, jI_sub, jI_mul, jI_neg, jL_add, jL_sub, jL_mul, jL_neg, jL_I, jI_div, jI_mod, jL_div, jL_mod] at c
    rw [if_pos (Or.inl c)]
    exact jRe rfl
  · rw [hm] at c2
    simp (disch := omega) only [mj_lcm, jI_lt, jI_le, jI_eq, jL_lt, jL_le, jL_eq, jI_lt0, jI_0le, jI_0lt, jI_le0, jI_eq0, jL_eq0, jI_L, jI_add, jI_sub, jI_mul, jI_neg, jL_add, jL_sub, jL_mul, jL_neg, jL_I, jI_div, jI_mod, jL_div, jL_mod] at c2
    rw [if_pos (Or.inr c2)]
    exact jRe rfl
  · rw [hm] at c c2
    simp (disch := omega) only [mj_lcm, jI_lt, jI_le, jI_eq, jL_lt, jL_le, jL_eq, jI_lt0, jI_0le, jI_0lt, jI_le0, jI_eq0, jL_eq0, jI_L, jI_add, jI_sub, jI_mul, jI_neg, jL_add, jL_sub, jL_mul, jL_neg, jL_I, jI_div, jI_mod, jL_div, jL_mod] at c c2
    rw [if_neg (by omega)]
    exact jRe rfl
/-- FormHouse.isSquare(J)Z; cuts at [2] -/
def cd_99 : List mj_E := [(0, false, .lconst 0, 1, 0, 0, 0, 0, jL 0),
  (1, false, .lstore_n 2, 1, 0, 0, 0, 0, 0),
  (2, true, .lload_n 2, 1, 0, 0, 0, 0, 0),
  (3, false, .lload_n 2, 1, 0, 0, 0, 0, 0),
  (4, false, .lmul, 1, 0, 0, 0, 0, 0),
  (5, false, .lload_n 0, 1, 0, 0, 0, 0, 0),
  (6, false, .lcmp, 1, 0, 0, 0, 0, 0),
  (7, false, .ifCond .ge 10, 3, 13, 0, 0, 0, 0),
  (10, false, .lload_n 2, 1, 0, 0, 0, 0, 0),
  (11, false, .lconst 1, 1, 0, 0, 0, 0, jL 1),
  (12, false, .ladd, 1, 0, 0, 0, 0, 0),
  (13, false, .lstore_n 2, 1, 0, 0, 0, 0, 0),
  (14, false, .goto (-12), 3, 2, 0, 0, 0, 0),
  (17, false, .lload_n 2, 1, 0, 0, 0, 0, 0),
  (18, false, .lload_n 2, 1, 0, 0, 0, 0, 0),
  (19, false, .lmul, 1, 0, 0, 0, 0, 0),
  (20, false, .lload_n 0, 1, 0, 0, 0, 0, 0),
  (21, false, .lcmp, 1, 0, 0, 0, 0, 0),
  (22, false, .ifCond .ne 7, 3, 21, 0, 0, 0, 0),
  (25, false, .iconst 1, 1, 0, 0, 0, jI 1, 0),
  (26, false, .goto 4, 3, 22, 0, 0, 0, 0),
  (29, false, .iconst 0, 1, 0, 0, 0, jI 0, 0),
  (30, false, .ireturn, 1, 0, 0, 0, 0, 0)]
def cx_99 : mj_X := (4, [], [])
theorem tb_99 : mj_tab (mj_mt 99) cx_99 cd_99 mj_mh [(0, 0, 0), (0, 0, 0), (0, 0, 0), (0, 0, 0), (0, 0, 0), (0, 0, 0), (0, 0, 0), (0, 0, 0), (0, 0, 0), (0, 0, 0), (0, 0, 0), (0, 0, 0), (0, 0, 0), (0, 0, 0), (0, 0, 0), (0, 0, 0), (0, 0, 0), (0, 0, 0), (0, 0, 0), (0, 0, 0), (0, 0, 0), (0, 0, 0), (0, 0, 0)] = true := mj_tab_f (by decide +kernel)
theorem ct_99 (G : mj_G) {d : Int} (h1 : -9223372036854775808 ≤ d) (h2 : d < 1000000000000000000) (h : mj_H) : mj_Ct G (mj_mt 99) 0 0 [.long (jL d)] h (fun o h' => h' = h ∧ ∃ v : Int, (v = 0 ∨ v = 1) ∧ o = .returned (some (.int (jI v))) ∧ (v = 1 ↔ ∃ w : Int, w * w = d)) := by
  refine mj_Ct_of mj_ok tb_99 rfl rfl (Nat.le_of_ble_eq_true rfl) (fun Run hR => ?_)
  have loop : ∀ (n : Nat) (w : Int) (wL : Int64), (d - w * w).toNat ≤ n → 0 ≤ w → w ≤ 1000000000 → (∀ u : Int, 0 ≤ u → u < w → u * u < d) → wL = jL w → Run 2 [some (.long (jL d)), none, some (.long wL), none] [] h (0, 0) := by
    intro n
    induction n with
    | zero =>
      rintro w wL hn hw hw2 hu rfl
      have hw3 : w * w ≤ 1000000000 * 1000000000 := Int.mul_le_mul hw2 hw2 hw (by decide)
      have hw4 : 0 ≤ w * w := Int.mul_nonneg hw hw
      refine hR 30 2 _ _ _ _ _ _ rfl ?_
      refine ⟨fun c => ⟨fun c2 => ?_, fun c2 => ?_⟩, fun c => ?_⟩
      · rw [jL_mul] at c c2
        simp (disch := omega) only [mj_lcm, jI_lt, jI_le, jI_eq, jL_lt, jL_le, jL_eq, jI_lt0, jI_0le, jI_0lt, jI_le0, jI_eq0, jL_eq0, jI_L, jI_add, jI_sub, jI_mul, jI_neg, jL_add, jL_sub, jL_mul, jL_neg, jL_I, jI_div, jI_mod, jL_div, jL_mod] at c c2
        exact ⟨Or.inr rfl, rfl, 1, Or.inr rfl, rfl, fun _ => ⟨w, c2⟩, fun _ => rfl⟩
      · rw [jL_mul] at c c2
        simp (disch := omega) only [mj_lcm, jI_lt, jI_le, jI_eq, jL_lt, jL_le, jL_eq, jI_lt0, jI_0le, jI_0lt, jI_le0, jI_eq0, jL_eq0, jI_L, jI_add, jI_sub, jI_mul, jI_neg, jL_add, jL_sub, jL_mul, jL_neg, jL_I, jI_div, jI_mod, jL_div, jL_mod] at c c2
        refine ⟨Or.inl rfl, rfl, 0, Or.inl rfl, rfl, fun z => by omega, ?_⟩
        rintro ⟨u, hu2⟩
        exfalso
        have hd0 := sqn u
        rw [hu2] at hd0
        rcases Int.lt_or_le (u.natAbs : Int) w with g | g
        · have := hu u.natAbs (by omega) g
          rw [← Int.natCast_mul, ← Int.natAbs_mul, hu2] at this
          omega
        · have := Int.mul_le_mul g g hw (by omega)
          rw [← Int.natCast_mul, ← Int.natAbs_mul, hu2] at this
          omega
      · rw [jL_mul] at c
        simp (disch := omega) only [mj_lcm, jI_lt, jI_le, jI_eq, jL_lt, jL_le, jL_eq, jI_lt0, jI_0le, jI_0lt, jI_le0, jI_eq0, jL_eq0, jI_L, jI_add, jI_sub, jI_mul, jI_neg, jL_add, jL_sub, jL_mul, jL_neg, jL_I, jI_div, jI_mod, jL_div, jL_mod] at c
        omega
    | succ n ih =>
      rintro w wL hn hw hw2 hu rfl
      have hw3 : w * w ≤ 1000000000 * 1000000000 := Int.mul_le_mul hw2 hw2 hw (by decide)
      have hw4 : 0 ≤ w * w := Int.mul_nonneg hw hw
      refine hR 30 2 _ _ _ _ _ _ rfl ?_
      refine ⟨fun c => ⟨fun c2 => ?_, fun c2 => ?_⟩, fun c => ?_⟩
      · rw [jL_mul] at c c2
        simp (disch := omega) only [mj_lcm, jI_lt, jI_le, jI_eq, jL_lt, jL_le, jL_eq, jI_lt0, jI_0le, jI_0lt, jI_le0, jI_eq0, jL_eq0, jI_L, jI_add, jI_sub, jI_mul, jI_neg, jL_add, jL_sub, jL_mul, jL_neg, jL_I, jI_div, jI_mod, jL_div, jL_mod] at c c2
        exact ⟨Or.inr rfl, rfl, 1, Or.inr rfl, rfl, fun _ => ⟨w, c2⟩, fun _ => rfl⟩
      · rw [jL_mul] at c c2
        simp (disch := omega) only [mj_lcm, jI_lt, jI_le, jI_eq, jL_lt, jL_le, jL_eq, jI_lt0, jI_0le, jI_0lt, jI_le0, jI_eq0, jL_eq0, jI_L, jI_add, jI_sub, jI_mul, jI_neg, jL_add, jL_sub, jL_mul, jL_neg, jL_I, jI_div, jI_mod, jL_div, jL_mod] at c c2
        refine ⟨Or.inl rfl, rfl, 0, Or.inl rfl, rfl, fun z => by omega, ?_⟩
        rintro ⟨u, hu2⟩
        exfalso
        have hd0 := sqn u
        rw [hu2] at hd0
        rcases Int.lt_or_le (u.natAbs : Int) w with g | g
        · have := hu u.natAbs (by omega) g
          rw [← Int.natCast_mul, ← Int.natAbs_mul, hu2] at this
          omega
        · have := Int.mul_le_mul g g hw (by omega)
          rw [← Int.natCast_mul, ← Int.natAbs_mul, hu2] at this
          omega
      · rw [jL_mul] at c
        simp (disch := omega) only [mj_lcm, jI_lt, jI_le, jI_eq, jL_lt, jL_le, jL_eq, jI_lt0, jI_0le, jI_0lt, jI_le0, jI_eq0, jL_eq0, jI_L, jI_add, jI_sub, jI_mul, jI_neg, jL_add, jL_sub, jL_mul, jL_neg, jL_I, jI_div, jI_mod, jL_div, jL_mod] at c
        have hlt : w < 1000000000 := by
          rcases Int.lt_or_le w 1000000000 with g | g
          · exact g
          · have := Int.mul_le_mul g g (by decide) hw
            omega
        refine ih (w + 1) _ ?_ (by omega) (by omega) ?_ (jL_add _ _)
        · have e : (w + 1) * (w + 1) = w * w + 2 * w + 1 := by grind
          omega
        · intro u hu0 hu1
          rcases Int.lt_or_le u w with g | g
          · exact hu u hu0 g
          · rw [show u = w by omega]
            omega
  refine hR 30 0 _ _ _ _ _ _ rfl ?_
  exact loop (d - 0 * 0).toNat 0 _ (Nat.le_refl _) (by decide) (by decide) (fun u h0 hl => by omega) rfl
/-- FormHouse.isShort(I)Z; cuts at [] -/
def cd_132 : List mj_E := [(0, false, .iload_n 0, 1, 0, 0, 0, 0, 0),
  (1, false, .ldc 134, 2, 0, 0, 0, jI (-1073741824), 0),
  (3, false, .if_icmp .lt 13, 3, 8, 0, 0, 0, 0),
  (6, false, .iload_n 0, 1, 0, 0, 0, 0, 0),
  (7, false, .ldc 135, 2, 0, 0, 0, jI 1073741824, 0),
  (9, false, .if_icmp .gt 7, 3, 8, 0, 0, 0, 0),
  (12, false, .iconst 1, 1, 0, 0, 0, jI 1, 0),
  (13, false, .goto 4, 3, 9, 0, 0, 0, 0),
  (16, false, .iconst 0, 1, 0, 0, 0, jI 0, 0),
  (17, false, .ireturn, 1, 0, 0, 0, 0, 0)]
def cx_132 : mj_X := (4, [], [])
theorem tb_132 : mj_tab (mj_mt 132) cx_132 cd_132 mj_mh [(0, 0, 0), (5201, 0, 0), (0, 0, 0), (0, 0, 0), (5202, 0, 0), (0, 0, 0), (0, 0, 0), (0, 0, 0), (0, 0, 0), (0, 0, 0)] = true := mj_tab_f (by decide +kernel)
theorem ct_132 (G : mj_G) {x : Int} (h1 : -2147483648 ≤ x) (h2 : x < 2147483648) (h : mj_H) : mj_Ct G (mj_mt 132) 0 0 [.int (jI x)] h (jR (.int (jI (if -1073741824 ≤ x ∧ x ≤ 1073741824 then 1 else 0))) h) := by
  refine mj_Ct_of mj_ok tb_132 rfl rfl (Nat.le_of_ble_eq_true rfl) (fun Run hR => ?_)
  refine hR 30 0 _ _ _ _ _ _ rfl ?_
  refine ⟨fun c => ⟨Or.inl rfl, ?_⟩, fun c => ⟨fun c2 => ⟨Or.inl rfl, ?_⟩, fun c2 => ⟨Or.inr rfl, ?_⟩⟩⟩
  · simp (disch := omega) only [mj_lcm, jI_lt, jI_le, jI_eq, jL_lt, jL_le, jL_eq, jI_lt0, jI_0le, jI_0lt, jI_le0, jI_eq0, jL_eq0, jI_L, jI_add, jI_sub, jI_mul, jI_neg, jL_add, jL_sub, jL_mul, jL_neg, jL_I, jI_div, jI_mod, jL_div, jL_mod] at c
    rw [if_neg (by omega)]
    exact jRe rfl
  · simp (disch := omega) only [mj_lcm, jI_lt, jI_le, jI_eq, jL_lt, jL_le, jL_eq, jI_lt0, jI_0le, jI_0lt, jI_le0, jI_eq0, jL_eq0, jI_L, jI_add, jI_sub, jI_mul, jI_neg, jL_add, jL_sub, jL_mul, jL_neg, jL_I, jI_div, jI_mod, jL_div, jL_mod] at c c2
    rw [if_neg (by omega)]
    exact jRe rfl
  · simp (disch := omega) only [mj_lcm, jI_lt, jI_le, jI_eq, jL_lt, jL_le, jL_eq, jI_lt0, jI_0le, jI_0lt, jI_le0, jI_eq0, jL_eq0, jI_L, jI_add, jI_sub, jI_mul, jI_neg, jL_add, jL_sub, jL_mul, jL_neg, jL_I, jI_div, jI_mod, jL_div, jL_mod] at c c2
    rw [if_pos (by omega)]
    exact jRe rfl
/-- FormHouse.isNumber(I)Z; cuts at [] -/
def cd_138 : List mj_E := [(0, false, .iload_n 0, 1, 0, 0, 0, 0, 0),
  (1, false, .ifCond .eq 21, 3, 10, 0, 0, 0, 0),
  (4, false, .iload_n 0, 1, 0, 0, 0, 0, 0),
  (5, false, .ldc_w 307, 3, 0, 0, 0, jI (-1000000), 0),
  (8, false, .if_icmp .lt 14, 3, 10, 0, 0, 0, 0),
  (11, false, .iload_n 0, 1, 0, 0, 0, 0, 0),
  (12, false, .ldc_w 308, 3, 0, 0, 0, jI 1000000, 0),
  (15, false, .if_icmp .gt 7, 3, 10, 0, 0, 0, 0),
  (18, false, .iconst 1, 1, 0, 0, 0, jI 1, 0),
  (19, false, .goto 4, 3, 11, 0, 0, 0, 0),
  (22, false, .iconst 0, 1, 0, 0, 0, jI 0, 0),
  (23, false, .ireturn, 1, 0, 0, 0, 0, 0)]
def cx_138 : mj_X := (4, [], [])
theorem tb_138 : mj_tab (mj_mt 138) cx_138 cd_138 mj_mh [(0, 0, 0), (0, 0, 0), (0, 0, 0), (5227, 0, 0), (0, 0, 0), (0, 0, 0), (5228, 0, 0), (0, 0, 0), (0, 0, 0), (0, 0, 0), (0, 0, 0), (0, 0, 0)] = true := mj_tab_f (by decide +kernel)
theorem ct_138 (G : mj_G) {x : Int} (h1 : -2147483648 ≤ x) (h2 : x < 2147483648) (h : mj_H) : mj_Ct G (mj_mt 138) 0 0 [.int (jI x)] h (jR (.int (jI (if x ≠ 0 ∧ -1000000 ≤ x ∧ x ≤ 1000000 then 1 else 0))) h) := by
  refine mj_Ct_of mj_ok tb_138 rfl rfl (Nat.le_of_ble_eq_true rfl) (fun Run hR => ?_)
  refine hR 30 0 _ _ _ _ _ _ rfl ?_
  refine ⟨fun c => ⟨Or.inl rfl, ?_⟩, fun c => ⟨fun c2 => ⟨Or.inl rfl, ?_⟩, fun c2 => ⟨fun c3 => ⟨Or.inl rfl, ?_⟩, fun c3 => ⟨Or.inr rfl, ?_⟩⟩⟩⟩
  · simp (disch := omega) only [mj_lcm, jI_lt, jI_le, jI_eq, jL_lt, jL_le, jL_eq, jI_lt0, jI_0le, jI_0lt, jI_le0, jI_eq0, jL_eq0, jI_L, jI_add, jI_sub, jI_mul, jI_neg, jL_add, jL_sub, jL_mul, jL_neg, jL_I, jI_div, jI_mod, jL_div, jL_mod] at c
    rw [if_neg (by omega)]
    exact jRe rfl
  · simp (disch := omega) only [mj_lcm, jI_lt, jI_le, jI_eq, jL_lt, jL_le, jL_eq, jI_lt0, jI_0le, jI_0lt, jI_le0, jI_eq0, jL_eq0, jI_L, jI_add, jI_sub, jI_mul, jI_neg, jL_add, jL_sub, jL_mul, jL_neg, jL_I, jI_div, jI_mod, jL_div, jL_mod] at c c2
    rw [if_neg (by omega)]
    exact jRe rfl
  · simp (disch := omega) only [mj_lcm, jI_lt, jI_le, jI_eq, jL_lt, jL_le, jL_eq, jI_lt0, jI_0le, jI_0lt, jI_le0, jI_eq0, jL_eq0, jI_L, jI_add, jI_sub, jI_mul, jI_neg, jL_add, jL_sub, jL_mul, jL_neg, jL_I, jI_div, jI_mod, jL_div, jL_mod] at c c2 c3
    rw [if_neg (by omega)]
    exact jRe rfl
  · simp (disch := omega) only [mj_lcm, jI_lt, jI_le, jI_eq, jL_lt, jL_le, jL_eq, jI_lt0, jI_0le, jI_0lt, jI_le0, jI_eq0, jL_eq0, jI_L, jI_add, jI_sub, jI_mul, jI_neg, jL_add, jL_sub, jL_mul, jL_neg, jL_I, jI_div, jI_mod, jL_div, jL_mod] at c c2 c3
    rw [if_pos (by omega)]
    exact jRe rfl
/-- FormHouse.isTurned(I)Z; cuts at [] -/
def cd_181 : List mj_E := [(0, false, .iload_n 0, 1, 0, 0, 0, 0, 0),
  (1, false, .iconst 1, 1, 0, 0, 0, jI 1, 0),
  (2, false, .if_icmp .eq 8, 3, 6, 0, 0, 0, 0),
  (5, false, .iload_n 0, 1, 0, 0, 0, 0, 0),
  (6, false, .iconst 2, 1, 0, 0, 0, jI 2, 0),
  (7, false, .if_icmp .ne 7, 3, 8, 0, 0, 0, 0),
  (10, false, .iconst 1, 1, 0, 0, 0, jI 1, 0),
  (11, false, .goto 4, 3, 9, 0, 0, 0, 0),
  (14, false, .iconst 0, 1, 0, 0, 0, jI 0, 0),
  (15, false, .ireturn, 1, 0, 0, 0, 0, 0)]
def cx_181 : mj_X := (4, [], [])
theorem tb_181 : mj_tab (mj_mt 181) cx_181 cd_181 mj_mh [(0, 0, 0), (0, 0, 0), (0, 0, 0), (0, 0, 0), (0, 0, 0), (0, 0, 0), (0, 0, 0), (0, 0, 0), (0, 0, 0), (0, 0, 0)] = true := mj_tab_f (by decide +kernel)
theorem ct_181 (G : mj_G) {x : Int} (h1 : -2147483648 ≤ x) (h2 : x < 2147483648) (h : mj_H) : mj_Ct G (mj_mt 181) 0 0 [.int (jI x)] h (jR (.int (jI (if x = 1 ∨ x = 2 then 1 else 0))) h) := by
  refine mj_Ct_of mj_ok tb_181 rfl rfl (Nat.le_of_ble_eq_true rfl) (fun Run hR => ?_)
  refine hR 30 0 _ _ _ _ _ _ rfl ?_
  refine ⟨fun c => ⟨Or.inr rfl, ?_⟩, fun c => ⟨fun c2 => ⟨Or.inr rfl, ?_⟩, fun c2 => ⟨Or.inl rfl, ?_⟩⟩⟩
  · simp (disch := omega) only [mj_lcm, jI_lt, jI_le, jI_eq, jL_lt, jL_le, jL_eq, jI_lt0, jI_0le, jI_0lt, jI_le0, jI_eq0, jL_eq0, jI_L, jI_add, jI_sub, jI_mul, jI_neg, jL_add, jL_sub, jL_mul, jL_neg, jL_I, jI_div, jI_mod, jL_div, jL_mod] at c
    rw [if_pos (by omega)]
    exact jRe rfl
  · simp (disch := omega) only [mj_lcm, jI_lt, jI_le, jI_eq, jL_lt, jL_le, jL_eq, jI_lt0, jI_0le, jI_0lt, jI_le0, jI_eq0, jL_eq0, jI_L, jI_add, jI_sub, jI_mul, jI_neg, jL_add, jL_sub, jL_mul, jL_neg, jL_I, jI_div, jI_mod, jL_div, jL_mod] at c c2
    rw [if_pos (by omega)]
    exact jRe rfl
  · simp (disch := omega) only [mj_lcm, jI_lt, jI_le, jI_eq, jL_lt, jL_le, jL_eq, jI_lt0, jI_0le, jI_0lt, jI_le0, jI_eq0, jL_eq0, jI_L, jI_add, jI_sub, jI_mul, jI_neg, jL_add, jL_sub, jL_mul, jL_neg, jL_I, jI_div, jI_mod, jL_div, jL_mod] at c c2
    rw [if_neg (by omega)]
    exact jRe rfl
/-- FormHouse.allow(Z)V; cuts at [] -/
def cd_100 : List mj_E := [(0, false, .iload_n 0, 1, 0, 0, 0, 0, 0),
  (1, false, .ifCond .ne 11, 3, 6, 0, 0, 0, 0),
  (4, false, .new 128, 3, 80, 6, 130, 0, 0),
  (7, false, .dup, 1, 0, 0, 0, 0, 0),
  (8, false, .invokespecial 130, 3, 101, 0, 0, 0, 0),
  (11, false, .athrow, 1, 0, 0, 0, 0, 0),
  (12, false, .return_, 1, 0, 0, 0, 0, 0)]
def cx_100 : mj_X := (0, [], [])
theorem tb_100 : mj_tab (mj_mt 100) cx_100 cd_100 mj_mh [(0, 0, 0), (0, 0, 0), (5054, 5063, 1027), (0, 0, 0), (5063, 0, 0), (0, 0, 0), (0, 0, 0)] = true := mj_tab_f (by decide +kernel)
/-- allow: it returns, or throws an IllegalArgumentException -/
theorem ct_100 (G : mj_G) {b : Int} (hb : b = 0 ∨ b = 1) (h : mj_H) : mj_Ct G (mj_mt 100) 1 6 [.int (jI b)] h (fun o h' => (b = 1 ∧ o = .returned none ∧ h' = h) ∨ (b = 0 ∧ o = .threw (hT h) ∧ h' = hNew h 80 0)) := by
  refine mj_Ct_of mj_ok tb_100 rfl rfl (Nat.le_of_ble_eq_true rfl) (fun Run hR => ?_)
  refine hR 30 0 _ _ _ _ _ _ rfl ?_
  refine ⟨fun c => ⟨⟨Nat.le_refl _, Nat.le_refl _⟩, ?_⟩, fun c => ?_⟩
  · simp (disch := omega) only [mj_lcm, jI_lt, jI_le, jI_eq, jL_lt, jL_le, jL_eq, jI_lt0, jI_0le, jI_0lt, jI_le0, jI_eq0, jL_eq0, jI_L, jI_add, jI_sub, jI_mul, jI_neg, jL_add, jL_sub, jL_mul, jL_neg, jL_I, jI_div, jI_mod, jL_div, jL_mod] at c
    exact Or.inr ⟨by omega, rfl, rfl⟩
  · simp (disch := omega) only [mj_lcm, jI_lt, jI_le, jI_eq, jL_lt, jL_le, jL_eq, jI_lt0, jI_0le, jI_0lt, jI_le0, jI_eq0, jL_eq0, jI_L, jI_add, jI_sub, jI_mul, jI_neg, jL_add, jL_sub, jL_mul, jL_neg, jL_I, jI_div, jI_mod, jL_div, jL_mod] at c
    exact Or.inl ⟨by omega, rfl, rfl⟩
/-- FormHouse.there(II)V; cuts at [] -/
def cd_104 : List mj_E := [(0, false, .iload_n 0, 1, 0, 0, 0, 0, 0),
  (1, false, .ifCond .lt 8, 3, 5, 0, 0, 0, 0),
  (4, false, .iload_n 0, 1, 0, 0, 0, 0, 0),
  (5, false, .iload_n 1, 1, 0, 0, 0, 0, 0),
  (6, false, .if_icmp .lt 11, 3, 9, 0, 0, 0, 0),
  (9, false, .new 131, 3, 81, 6, 133, 0, 0),
  (12, false, .dup, 1, 0, 0, 0, 0, 0),
  (13, false, .invokespecial 133, 3, 105, 0, 0, 0, 0),
  (16, false, .athrow, 1, 0, 0, 0, 0, 0),
  (17, false, .return_, 1, 0, 0, 0, 0, 0)]
def cx_104 : mj_X := (0, [], [])
theorem tb_104 : mj_tab (mj_mt 104) cx_104 cd_104 mj_mh [(0, 0, 0), (0, 0, 0), (0, 0, 0), (0, 0, 0), (0, 0, 0), (5080, 5089, 1028), (0, 0, 0), (5089, 0, 0), (0, 0, 0), (0, 0, 0)] = true := mj_tab_f (by decide +kernel)
/-- there: it returns, or throws an IndexOutOfBoundsException -/
theorem ct_104 (G : mj_G) {k n : Int} (h1 : -2147483648 ≤ k) (h2 : k < 2147483648) (h3 : -2147483648 ≤ n) (h4 : n < 2147483648) (h : mj_H) : mj_Ct G (mj_mt 104) 1 6 [.int (jI k), .int (jI n)] h (fun o h' => ((0 ≤ k ∧ k < n) ∧ o = .returned none ∧ h' = h) ∨ (¬ (0 ≤ k ∧ k < n) ∧ o = .threw (hT h) ∧ h' = hNew h 81 0)) := by
  refine mj_Ct_of mj_ok tb_104 rfl rfl (Nat.le_of_ble_eq_true rfl) (fun Run hR => ?_)
  refine hR 30 0 _ _ _ _ _ _ rfl ?_
  refine ⟨fun c => ⟨⟨Nat.le_refl _, Nat.le_refl _⟩, ?_⟩, fun c => ⟨fun c2 => ?_, fun c2 => ⟨⟨Nat.le_refl _, Nat.le_refl _⟩, ?_⟩⟩⟩
  · simp (disch := omega) only [mj_lcm, jI_lt, jI_le, jI_eq, jL_lt, jL_le, jL_eq, jI_lt0, jI_0le, jI_0lt, jI_le0, jI_eq0, jL_eq0, jI_L, jI_add, jI_sub, jI_mul, jI_neg, jL_add, jL_sub, jL_mul, jL_neg, jL_I, jI_div, jI_mod, jL_div, jL_mod] at c
    exact Or.inr ⟨by omega, rfl, rfl⟩
  · simp (disch := omega) only [mj_lcm, jI_lt, jI_le, jI_eq, jL_lt, jL_le, jL_eq, jI_lt0, jI_0le, jI_0lt, jI_le0, jI_eq0, jL_eq0, jI_L, jI_add, jI_sub, jI_mul, jI_neg, jL_add, jL_sub, jL_mul, jL_neg, jL_I, jI_div, jI_mod, jL_div, jL_mod] at c c2
    exact Or.inl ⟨by omega, rfl, rfl⟩
  · simp (disch := omega) only [mj_lcm, jI_lt, jI_le, jI_eq, jL_lt, jL_le, jL_eq, jI_lt0, jI_0le, jI_0lt, jI_le0, jI_eq0, jL_eq0, jI_L, jI_add, jI_sub, jI_mul, jI_neg, jL_add, jL_sub, jL_mul, jL_neg, jL_I, jI_div, jI_mod, jL_div, jL_mod] at c c2
    exact Or.inr ⟨by omega, rfl, rfl⟩
/-- FormHouseModel.rest(JJ)J; cuts at [] -/
def cd_200 : List mj_E := [(0, false, .lload_n 0, 1, 0, 0, 0, 0, 0),
  (1, false, .lload_n 2, 1, 0, 0, 0, 0, 0),
  (2, false, .lrem, 1, 0, 0, 0, 0, 0),
  (3, false, .lstore 4, 2, 0, 0, 0, 0, 0),
  (5, false, .lload 4, 2, 0, 0, 0, 0, 0),
  (7, false, .lconst 0, 1, 0, 0, 0, 0, jL 0),
  (8, false, .lcmp, 1, 0, 0, 0, 0, 0),
  (9, false, .ifCond .ge 10, 3, 12, 0, 0, 0, 0),
  (12, false, .lload 4, 2, 0, 0, 0, 0, 0),
  (14, false, .lload_n 2, 1, 0, 0, 0, 0, 0),
  (15, false, .ladd, 1, 0, 0, 0, 0, 0),
  (16, false, .goto 5, 3, 13, 0, 0, 0, 0),
  (19, false, .lload 4, 2, 0, 0, 0, 0, 0),
  (21, false, .lreturn, 1, 0, 0, 0, 0, 0)]
def cx_200 : mj_X := (2, [], [])
theorem tb_200 : mj_tab (mj_mt 200) cx_200 cd_200 mj_mh [(0, 0, 0), (0, 0, 0), (0, 0, 0), (0, 0, 0), (0, 0, 0), (0, 0, 0), (0, 0, 0), (0, 0, 0), (0, 0, 0), (0, 0, 0), (0, 0, 0), (0, 0, 0), (0, 0, 0), (0, 0, 0)] = true := mj_tab_f (by decide +kernel)
theorem ct_200 (G : mj_G) {x y : Int} (h1 : -9223372036854775808 < x) (h2 : x < 9223372036854775808) (h3 : 0 < y) (h4 : y < 9223372036854775808) (h : mj_H) : mj_Ct G (mj_mt 200) 0 0 [.long (jL x), .long (jL y)] h (jR (.long (jL (x % y))) h) := by
  refine mj_Ct_of mj_ok tb_200 rfl rfl (Nat.le_of_ble_eq_true rfl) (fun Run hR => ?_)
  have hm := jL_mod (a := x) (b := y) h1 h2 (by omega) h4
  have he := Int.tmod_eq_emod (a := x) (b := y)
  have hlt : x % y < y := Int.emod_lt_of_pos _ h3
  have hge : 0 ≤ x % y := Int.emod_nonneg _ (by omega)
  have hb := tmod_abs x y
  refine hR 30 0 _ _ _ _ _ _ rfl ?_
  refine ⟨?_, ?_⟩
  · simp (disch := omega) only [mj_lcm, jI_lt, jI_le, jI_eq, jL_lt, jL_le, jL_eq, jI_lt0, jI_0le, jI_0lt, jI_le0, jI_eq0, jL_eq0, jI_L, jI_add, jI_sub, jI_mul, jI_neg, jL_add, jL_sub, jL_mul, jL_neg, jL_I, jI_div, jI_mod, jL_div, jL_mod]
    omega
  · rw [hm]
    refine ⟨fun c => jRe ?_, fun c => jRe ?_⟩
    · simp (disch := omega) only [mj_lcm, jI_lt, jI_le, jI_eq, jL_lt, jL_le, jL_eq, jI_lt0, jI_0le, jI_0lt, jI_le0, jI_eq0, jL_eq0, jI_L, jI_add, jI_sub, jI_mul, jI_neg, jL_add, jL_sub, jL_mul, jL_neg, jL_I, jI_div, jI_mod, jL_div, jL_mod] at c
      by_cases g : 0 ≤ x ∨ y ∣ x
      · rw [he, if_pos g, show x % y - ((0 : Nat) : Int) = x % y by omega]
      · rw [if_neg g] at he
        omega
    · simp (disch := omega) only [mj_lcm, jI_lt, jI_le, jI_eq, jL_lt, jL_le, jL_eq, jI_lt0, jI_0le, jI_0lt, jI_le0, jI_eq0, jL_eq0, jI_L, jI_add, jI_sub, jI_mul, jI_neg, jL_add, jL_sub, jL_mul, jL_neg, jL_I, jI_div, jI_mod, jL_div, jL_mod] at c
      by_cases g : 0 ≤ x ∨ y ∣ x
      · rw [if_pos g] at he
        omega
      · rw [if_neg g] at he
        rw [jL_add]
        congr 2
        omega
/-- FormHouseModel.in(JJJ)Z; cuts at [] -/
def cd_225 : List mj_E := [(0, false, .lload_n 0, 1, 0, 0, 0, 0, 0),
  (1, false, .lload_n 2, 1, 0, 0, 0, 0, 0),
  (2, false, .lcmp, 1, 0, 0, 0, 0, 0),
  (3, false, .ifCond .lt 14, 3, 10, 0, 0, 0, 0),
  (6, false, .lload_n 0, 1, 0, 0, 0, 0, 0),
  (7, false, .lload 4, 2, 0, 0, 0, 0, 0),
  (9, false, .lcmp, 1, 0, 0, 0, 0, 0),
  (10, false, .ifCond .gt 7, 3, 10, 0, 0, 0, 0),
  (13, false, .iconst 1, 1, 0, 0, 0, jI 1, 0),
  (14, false, .goto 4, 3, 11, 0, 0, 0, 0),
  (17, false, .iconst 0, 1, 0, 0, 0, jI 0, 0),
  (18, false, .ireturn, 1, 0, 0, 0, 0, 0)]
def cx_225 : mj_X := (4, [], [])
theorem tb_225 : mj_tab (mj_mt 225) cx_225 cd_225 mj_mh [(0, 0, 0), (0, 0, 0), (0, 0, 0), (0, 0, 0), (0, 0, 0), (0, 0, 0), (0, 0, 0), (0, 0, 0), (0, 0, 0), (0, 0, 0), (0, 0, 0), (0, 0, 0)] = true := mj_tab_f (by decide +kernel)
theorem ct_225 (G : mj_G) {v a b : Int} (h1 : -9223372036854775808 ≤ v) (h2 : v < 9223372036854775808) (h3 : -9223372036854775808 ≤ a) (h4 : a < 9223372036854775808) (h5 : -9223372036854775808 ≤ b) (h6 : b < 9223372036854775808) (h : mj_H) : mj_Ct G (mj_mt 225) 0 0 [.long (jL v), .long (jL a), .long (jL b)] h (jR (.int (jI (if a ≤ v ∧ v ≤ b then 1 else 0))) h) := by
  refine mj_Ct_of mj_ok tb_225 rfl rfl (Nat.le_of_ble_eq_true rfl) (fun Run hR => ?_)
  refine hR 30 0 _ _ _ _ _ _ rfl ?_
  refine ⟨fun c => ⟨Or.inl rfl, ?_⟩, fun c => ⟨fun c2 => ⟨Or.inl rfl, ?_⟩, fun c2 => ⟨Or.inr rfl, ?_⟩⟩⟩
  · simp (disch := omega) only [mj_lcm, jI_lt, jI_le, jI_eq, jL_lt, jL_le, jL_eq, jI_lt0, jI_0le, jI_0lt, jI_le0, jI_eq0, jL_eq0, jI_L, jI_add, jI_sub, jI_mul, jI_neg, jL_add, jL_sub, jL_mul, jL_neg, jL_I, jI_div, jI_mod, jL_div, jL_mod] at c
    rw [if_neg (by omega)]
    exact jRe rfl
  · simp (disch := omega) only [mj_lcm, jI_lt, jI_le, jI_eq, jL_lt, jL_le, jL_eq, jI_lt0, jI_0le, jI_0lt, jI_le0, jI_eq0, jL_eq0, jI_L, jI_add, jI_sub, jI_mul, jI_neg, jL_add, jL_sub, jL_mul, jL_neg, jL_I, jI_div, jI_mod, jL_div, jL_mod] at c c2
    rw [if_neg (by omega)]
    exact jRe rfl
  · simp (disch := omega) only [mj_lcm, jI_lt, jI_le, jI_eq, jL_lt, jL_le, jL_eq, jI_lt0, jI_0le, jI_0lt, jI_le0, jI_eq0, jL_eq0, jI_L, jI_add, jI_sub, jI_mul, jI_neg, jL_add, jL_sub, jL_mul, jL_neg, jL_I, jI_div, jI_mod, jL_div, jL_mod] at c c2
    rw [if_pos (by omega)]
    exact jRe rfl
/-- FormHouseModel.rootOf(J)J; cuts at [7] -/
def cl_192_1 : List mj_E := (39, false, .goto 9, 3, 29, 0, 0, 0, 0) ::
  (42, false, .lload 6, 2, 0, 0, 0, 0, 0) ::
  (44, false, .lconst 1, 1, 0, 0, 0, 0, jL 1) ::
  (45, false, .lsub, 1, 0, 0, 0, 0, 0) ::
  (46, false, .lstore 4, 2, 0, 0, 0, 0, 0) ::
  (48, false, .goto (-41), 3, 4, 0, 0, 0, 0) ::
  (51, false, .lload_n 2, 1, 0, 0, 0, 0, 0) ::
  (52, false, .lreturn, 1, 0, 0, 0, 0, 0) ::
  []
def cl_192_0 : List mj_E := (0, false, .lconst 0, 1, 0, 0, 0, 0, jL 0) ::
  (1, false, .lstore_n 2, 1, 0, 0, 0, 0, 0) ::
  (2, false, .ldc2_w 128, 3, 0, 0, 0, 0, jL 3037000499) ::
  (5, false, .lstore 4, 2, 0, 0, 0, 0, 0) ::
  (7, true, .lload_n 2, 1, 0, 0, 0, 0, 0) ::
  (8, false, .lload 4, 2, 0, 0, 0, 0, 0) ::
  (10, false, .lcmp, 1, 0, 0, 0, 0, 0) ::
  (11, false, .ifCond .ge 40, 3, 30, 0, 0, 0, 0) ::
  (14, false, .lload_n 2, 1, 0, 0, 0, 0, 0) ::
  (15, false, .lload 4, 2, 0, 0, 0, 0, 0) ::
  (17, false, .ladd, 1, 0, 0, 0, 0, 0) ::
  (18, false, .lconst 1, 1, 0, 0, 0, 0, jL 1) ::
  (19, false, .ladd, 1, 0, 0, 0, 0, 0) ::
  (20, false, .ldc2_w 130, 3, 0, 0, 0, 0, jL 2) ::
  (23, false, .ldiv, 1, 0, 0, 0, 0, 0) ::
  (24, false, .lstore 6, 2, 0, 0, 0, 0, 0) ::
  (26, false, .lload 6, 2, 0, 0, 0, 0, 0) ::
  (28, false, .lload 6, 2, 0, 0, 0, 0, 0) ::
  (30, false, .lmul, 1, 0, 0, 0, 0, 0) ::
  (31, false, .lload_n 0, 1, 0, 0, 0, 0, 0) ::
  (32, false, .lcmp, 1, 0, 0, 0, 0, 0) ::
  (33, false, .ifCond .gt 9, 3, 25, 0, 0, 0, 0) ::
  (36, false, .lload 6, 2, 0, 0, 0, 0, 0) ::
  (38, false, .lstore_n 2, 1, 0, 0, 0, 0, 0) ::
  cl_192_1
def cd_192 : List mj_E := cl_192_0
def cx_192 : mj_X := (2, [], [])
theorem tb_192 : mj_tab (mj_mt 192) cx_192 cd_192 mj_mh [(0, 0, 0), (0, 0, 0), (6217, 0, 0), (0, 0, 0), (0, 0, 0), (0, 0, 0), (0, 0, 0), (0, 0, 0), (0, 0, 0), (0, 0, 0), (0, 0, 0), (0, 0, 0), (0, 0, 0), (6218, 0, 0), (0, 0, 0), (0, 0, 0), (0, 0, 0), (0, 0, 0), (0, 0, 0), (0, 0, 0), (0, 0, 0), (0, 0, 0), (0, 0, 0), (0, 0, 0), (0, 0, 0), (0, 0, 0), (0, 0, 0), (0, 0, 0), (0, 0, 0), (0, 0, 0), (0, 0, 0), (0, 0, 0)] = true := mj_tab_f (by decide +kernel)
theorem ct_192 (G : mj_G) {v : Int} (h1 : 0 ≤ v) (h2 : v < 9223372036854775808) (h : mj_H) : mj_Ct G (mj_mt 192) 0 0 [.long (jL v)] h (fun o h' => h' = h ∧ ∃ w : Int, o = .returned (some (.long (jL w))) ∧ 0 ≤ w ∧ w ≤ 3037000499 ∧ w * w ≤ v ∧ v < (w + 1) * (w + 1)) := by
  refine mj_Ct_of mj_ok tb_192 rfl rfl (Nat.le_of_ble_eq_true rfl) (fun Run hR => ?_)
  have loop : ∀ (n : Nat) (lo hi : Int) (loL hiL : Int64) (r6 r7 : Option Value), (hi - lo).toNat ≤ n → 0 ≤ lo → lo ≤ hi → hi ≤ 3037000499 → lo * lo ≤ v → v < (hi + 1) * (hi + 1) → loL = jL lo → hiL = jL hi → Run 7 [some (.long (jL v)), none, some (.long loL), none, some (.long hiL), none, r6, r7] [] h (0, 0) := by
    intro n
    induction n with
    | zero =>
      rintro lo hi loL hiL r6 r7 hn h0 hle hhi hlo hv rfl rfl
      refine hR 40 4 _ _ _ _ _ _ rfl ?_
      refine ⟨fun c => ⟨rfl, lo, rfl, h0, by omega, hlo, by rw [show lo = hi by omega]; exact hv⟩, fun c => ?_⟩
      simp (disch := omega) only [mj_lcm, jI_lt, jI_le, jI_eq, jL_lt, jL_le, jL_eq, jI_lt0, jI_0le, jI_0lt, jI_le0, jI_eq0, jL_eq0, jI_L, jI_add, jI_sub, jI_mul, jI_neg, jL_add, jL_sub, jL_mul, jL_neg, jL_I, jI_div, jI_mod, jL_div, jL_mod] at c
      omega
    | succ n ih =>
      rintro lo hi loL hiL r6 r7 hn h0 hle hhi hlo hv rfl rfl
      refine hR 40 4 _ _ _ _ _ _ rfl ?_
      refine ⟨fun c => ?_, fun c => ⟨?_, ?_⟩⟩
      · simp (disch := omega) only [mj_lcm, jI_lt, jI_le, jI_eq, jL_lt, jL_le, jL_eq, jI_lt0, jI_0le, jI_0lt, jI_le0, jI_eq0, jL_eq0, jI_L, jI_add, jI_sub, jI_mul, jI_neg, jL_add, jL_sub, jL_mul, jL_neg, jL_I, jI_div, jI_mod, jL_div, jL_mod] at c
        exact ⟨rfl, lo, rfl, h0, by omega, hlo, by rw [show lo = hi by omega]; exact hv⟩
      · decide
      · simp (disch := omega) only [mj_lcm, jI_lt, jI_le, jI_eq, jL_lt, jL_le, jL_eq, jI_lt0, jI_0le, jI_0lt, jI_le0, jI_eq0, jL_eq0, jI_L, jI_add, jI_sub, jI_mul, jI_neg, jL_add, jL_sub, jL_mul, jL_neg, jL_I, jI_div, jI_mod, jL_div, jL_mod] at c
        rw [jL_add, jL_add, jL_div (by omega) (by omega) (by decide) (by decide), Int.tdiv_eq_ediv_of_nonneg (by omega)]
        have hk0 : 0 ≤ (lo + hi + 1) / 2 := by omega
        have hk1 : (lo + hi + 1) / 2 ≤ 3037000499 := by omega
        generalize hk : (lo + hi + 1) / 2 = k at hk0 hk1
        have hkk : k * k ≤ 3037000499 * 3037000499 := Int.mul_le_mul hk1 hk1 hk0 (by decide)
        have hk2 : 0 ≤ k * k := Int.mul_nonneg hk0 hk0
        refine ⟨fun c2 => ?_, fun c2 => ?_⟩
        · rw [jL_mul] at c2
          simp (disch := omega) only [mj_lcm, jI_lt, jI_le, jI_eq, jL_lt, jL_le, jL_eq, jI_lt0, jI_0le, jI_0lt, jI_le0, jI_eq0, jL_eq0, jI_L, jI_add, jI_sub, jI_mul, jI_neg, jL_add, jL_sub, jL_mul, jL_neg, jL_I, jI_div, jI_mod, jL_div, jL_mod] at c2
          refine ih lo (k - 1) _ _ _ _ (by omega) h0 (by omega) (by omega) hlo ?_ rfl (jL_sub _ _)
          rw [show k - 1 + 1 = k by omega]
          exact c2
        · rw [jL_mul] at c2
          simp (disch := omega) only [mj_lcm, jI_lt, jI_le, jI_eq, jL_lt, jL_le, jL_eq, jI_lt0, jI_0le, jI_0lt, jI_le0, jI_eq0, jL_eq0, jI_L, jI_add, jI_sub, jI_mul, jI_neg, jL_add, jL_sub, jL_mul, jL_neg, jL_I, jI_div, jI_mod, jL_div, jL_mod] at c2
          exact ih k hi _ _ _ _ (by omega) hk0 (by omega) hhi (by omega) hv rfl rfl
  refine hR 30 0 _ _ _ _ _ _ rfl ?_
  exact loop _ 0 3037000499 _ _ _ _ (Nat.le_refl _) (by decide) (by decide) (by decide) h1 (by omega) rfl rfl
