/-- FormHouseModel.isBelow(I)Z; cuts at [] -/
def cd_238 : List mj_E := [(0, false, .aload_n 0, 1, 0, 0, 0, 0, 0),
  (1, false, .iload_n 1, 1, 0, 0, 0, 0, 0),
  (2, false, .aload_n 0, 1, 0, 0, 0, 0, 0),
  (3, false, .getfield 313, 3, 17, 48, 0, 0, 0),
  (6, false, .iconst 1, 1, 0, 0, 0, jI 1, 0),
  (7, false, .isub, 1, 0, 0, 0, 0, 0),
  (8, false, .invokevirtual 316, 3, 237, 2, 17, 0, 0),
  (11, false, .sipush 32767, 3, 0, 0, 0, jI 32767, 0),
  (14, false, .if_icmp .le 7, 3, 11, 0, 0, 0, 0),
  (17, false, .iconst 1, 1, 0, 0, 0, jI 1, 0),
  (18, false, .goto 4, 3, 12, 0, 0, 0, 0),
  (21, false, .iconst 0, 1, 0, 0, 0, jI 0, 0),
  (22, false, .ireturn, 1, 0, 0, 0, 0, 0)]
def cx_238 : mj_X := (4, [], [])
theorem tb_238 : mj_tab (mj_mt 238) cx_238 cd_238 mj_mh [(0, 0, 0), (0, 0, 0), (0, 0, 0), (7147, 0, 0), (0, 0, 0), (0, 0, 0), (8096, 0, 0), (0, 0, 0), (0, 0, 0), (0, 0, 0), (0, 0, 0), (0, 0, 0), (0, 0, 0)] = true := mj_tab_f (by decide +kernel)
theorem ct_238 (G : mj_G) {h : mj_H} (hm : isMd h) {i n : Nat} (hi : i < 5) (hn0 : 0 < n) (hn : n ≤ 2200) (hd : hI h 1412 48 = jI n) {d : Int} (hv : h.1 1440 (2200 * i + (n - 1)) = jI d) (h0 : 0 ≤ d) (h1 : d < 65536) : mj_Ct G (mj_mt 238) 0 0 [.ref 1412, .int (jI i)] h (jR (.int (jI (if 32767 < d then 1 else 0))) h) := by
  refine mj_Ct_of mj_ok tb_238 rfl rfl (Nat.le_of_ble_eq_true rfl) (fun Run hR => ?_)
  refine hR 30 0 _ _ _ _ _ _ rfl ?_
  refine ⟨hm.1, ?_⟩
  rw [hd]
  have c := ct_237 G hm hi (k := n - 1) (by omega)
  rw [show jI ((n - 1 : Nat) : Int) = jI n - jI 1 by rw [jI_sub]; congr 1; omega, show hI h 1440 (2200 * i + (n - 1)) = jI d from hv] at c
  refine ⟨hm.1, jcall c ?_⟩
  refine ⟨fun c1 => ⟨Or.inl rfl, ?_⟩, fun c1 => ⟨Or.inr rfl, ?_⟩⟩
  · simp (disch := omega) only [mj_lcm, jI_lt, jI_le, jI_eq, jL_lt, jL_le, jL_eq, jI_lt0, jI_0le, jI_0lt, jI_le0, jI_eq0, jL_eq0, jI_L, jI_add, jI_sub, jI_mul, jI_neg, jL_add, jL_sub, jL_mul, jL_neg, jL_I, jI_div, jI_mod, jL_div, jL_mod] at c1
    rw [if_neg (by omega)]
    exact jRe rfl
  · simp (disch := omega) only [mj_lcm, jI_lt, jI_le, jI_eq, jL_lt, jL_le, jL_eq, jI_lt0, jI_0le, jI_0lt, jI_le0, jI_eq0, jL_eq0, jI_L, jI_add, jI_sub, jI_mul, jI_neg, jL_add, jL_sub, jL_mul, jL_neg, jL_I, jI_div, jI_mod, jL_div, jL_mod] at c1
    rw [if_pos (by omega)]
    exact jRe rfl
