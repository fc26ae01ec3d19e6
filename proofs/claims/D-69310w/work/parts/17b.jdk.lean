/-! contracts: the library's small functions -/
/-- it returns v and leaves the heap -/
def jR (v : Value) (h : mj_H) : mj_Q := fun o h' => o = .returned (some v) ∧ h' = h
theorem jcall {G : mj_G} {j : Nat} {av : List Value} {h : mj_H} {bu : Nat × Nat} {k : Outcome → mj_H → Nat × Nat → Prop} {v : Value} (hc : mj_Ct G (mj_mt j) 0 0 av h (jR v h)) (hk : k (.returned (some v)) h bu) : mj_call G j av h bu k :=
  ⟨0, 0, _, hc, Nat.zero_le _, Nat.zero_le _, by rintro o h' ⟨rfl, rfl⟩; exact hk⟩
theorem jRe {v w : Value} {h : mj_H} (e : v = w) : jR w h (.returned (some v)) h := ⟨by rw [e], rfl⟩
/-- no row of the natives is one of these methods of Math -/
theorem mj_mathRow : (Jvm.natives.all fun r => !(r.cls == "java/lang/Math") || (r.desc != "(J)J" && r.desc != "(JJ)J" && r.desc != "(II)I" && r.desc != "(I)I")) = true := by decide +kernel
theorem mj_mathPl {x : MethodName} (hc : x.cls = "java/lang/Math") (hd : x.desc = "(J)J" ∨ x.desc = "(JJ)J" ∨ x.desc = "(II)I" ∨ x.desc = "(I)I") : plainFor x = true := by
  unfold plainFor
  rw [Bool.or_eq_true]
  right
  rw [Option.isNone_iff_eq_none, NativeRow.find?, List.find?_eq_none]
  intro r hr h
  have h1 := List.all_eq_true.mp mj_mathRow r hr
  simp only [Bool.and_eq_true, beq_iff_eq] at h
  rcases hd with z | z | z | z <;> simp [h, hc, z] at h1
/-- java/lang/Math.abs(J)J; cuts at [] -/
def cd_28 : List mj_E := [(0, false, .lload_n 0, 1, 0, 0, 0, 0, 0),
  (1, false, .lconst 0, 1, 0, 0, 0, 0, jL 0),
  (2, false, .lcmp, 1, 0, 0, 0, 0, 0),
  (3, false, .ifCond .ge 8, 3, 7, 0, 0, 0, 0),
  (6, false, .lload_n 0, 1, 0, 0, 0, 0, 0),
  (7, false, .lneg, 1, 0, 0, 0, 0, 0),
  (8, false, .goto 4, 3, 8, 0, 0, 0, 0),
  (11, false, .lload_n 0, 1, 0, 0, 0, 0, 0),
  (12, false, .lreturn, 1, 0, 0, 0, 0, 0)]
def cx_28 : mj_X := (2, [], [])
theorem tb_28 : mj_tab (mj_mt 28) cx_28 cd_28 mj_mh [(0, 0, 0), (0, 0, 0), (0, 0, 0), (0, 0, 0), (0, 0, 0), (0, 0, 0), (0, 0, 0), (0, 0, 0), (0, 0, 0)] = true := mj_tab_p (mj_mathPl rfl (by decide)) (by decide +kernel)
theorem ct_28 (G : mj_G) {x : Int} (h1 : -9223372036854775808 < x) (h2 : x < 9223372036854775808) (h : mj_H) : mj_Ct G (mj_mt 28) 0 0 [.long (jL x)] h (jR (.long (jL x.natAbs)) h) := by
  refine mj_Ct_of mj_ok tb_28 rfl rfl (Nat.le_of_ble_eq_true rfl) (fun Run hR => ?_)
  refine hR 20 0 _ _ _ _ _ _ rfl ?_
  refine ⟨fun c => ?_, fun c => ?_⟩
  · have c' : 0 ≤ x := (jL_le (by decide) (by decide) (by omega) h2).mp c
    refine jRe ?_
    rw [show (x.natAbs : Int) = x by omega]
  · have c' : ¬ 0 ≤ x := fun z => c ((jL_le (by decide) (by decide) (by omega) h2).mpr z)
    refine jRe ?_
    rw [show (x.natAbs : Int) = -x by omega, ← jL_neg]
/-- java/lang/Math.abs(I)I; cuts at [] -/
def cd_140 : List mj_E := [(0, false, .iload_n 0, 1, 0, 0, 0, 0, 0),
  (1, false, .ifCond .ge 8, 3, 5, 0, 0, 0, 0),
  (4, false, .iload_n 0, 1, 0, 0, 0, 0, 0),
  (5, false, .ineg, 1, 0, 0, 0, 0, 0),
  (6, false, .goto 4, 3, 6, 0, 0, 0, 0),
  (9, false, .iload_n 0, 1, 0, 0, 0, 0, 0),
  (10, false, .ireturn, 1, 0, 0, 0, 0, 0)]
def cx_140 : mj_X := (1, [], [])
theorem tb_140 : mj_tab (mj_mt 140) cx_140 cd_140 mj_mh [(0, 0, 0), (0, 0, 0), (0, 0, 0), (0, 0, 0), (0, 0, 0), (0, 0, 0), (0, 0, 0)] = true := mj_tab_p (mj_mathPl rfl (by decide)) (by decide +kernel)
theorem ct_140 (G : mj_G) {x : Int} (h1 : -2147483648 < x) (h2 : x < 2147483648) (h : mj_H) : mj_Ct G (mj_mt 140) 0 0 [.int (jI x)] h (jR (.int (jI x.natAbs)) h) := by
  refine mj_Ct_of mj_ok tb_140 rfl rfl (Nat.le_of_ble_eq_true rfl) (fun Run hR => ?_)
  refine hR 20 0 _ _ _ _ _ _ rfl ?_
  refine ⟨fun c => ?_, fun c => ?_⟩
  · have c' : 0 ≤ x := (jI_0le (by omega) h2).mp c
    refine jRe ?_
    rw [show (x.natAbs : Int) = x by omega]
  · have c' : ¬ 0 ≤ x := fun z => c ((jI_0le (by omega) h2).mpr z)
    refine jRe ?_
    rw [show (x.natAbs : Int) = -x by omega, ← jI_neg]
/-- java/lang/Long.signum(J)I; cuts at [] -/
def cd_22 : List mj_E := [(0, false, .lload_n 0, 1, 0, 0, 0, 0, 0),
  (1, false, .bipush 63, 2, 0, 0, 0, jI 63, 0),
  (3, false, .lshr, 1, 0, 0, 0, 0, 0),
  (4, false, .lload_n 0, 1, 0, 0, 0, 0, 0),
  (5, false, .lneg, 1, 0, 0, 0, 0, 0),
  (6, false, .bipush 63, 2, 0, 0, 0, jI 63, 0),
  (8, false, .lushr, 1, 0, 0, 0, 0, 0),
  (9, false, .lor, 1, 0, 0, 0, 0, 0),
  (10, false, .l2i, 1, 0, 0, 0, 0, 0),
  (11, false, .ireturn, 1, 0, 0, 0, 0, 0)]
def cx_22 : mj_X := (1, [], [])
theorem tb_22 : mj_tab (mj_mt 22) cx_22 cd_22 mj_mh [(0, 0, 0), (0, 0, 0), (0, 0, 0), (0, 0, 0), (0, 0, 0), (0, 0, 0), (0, 0, 0), (0, 0, 0), (0, 0, 0), (0, 0, 0)] = true := mj_tab_f (by decide +kernel)
theorem jL_sg {x : Int} (h1 : -9223372036854775808 ≤ x) (h2 : x < 9223372036854775808) : ((jL x >>> ((jI 63).toInt64 &&& 63)) ||| ((-jL x).toUInt64 >>> ((jI 63).toInt64.toUInt64 &&& Int64.toUInt64 63)).toInt64).toInt32 = jI x.sign := by
  rw [jL_shr (K := 63) 63 (by decide) rfl h1 h2, jL_neg, jL_ushr (K := 63) 63 (by decide) rfl]
  rcases Int.lt_trichotomy x 0 with z | z | z
  · rw [Int.sign_eq_neg_one_of_neg z, show x / 2 ^ 63 = -1 by omega]
    have : (-x) % 18446744073709551616 / 2 ^ 63 = 0 ∨ (-x) % 18446744073709551616 / 2 ^ 63 = 1 := by omega
    rcases this with e | e <;> (rw [e]; decide)
  · subst z
    decide
  · rw [Int.sign_eq_one_of_pos z, show x / 2 ^ 63 = 0 by omega, show (-x) % 18446744073709551616 / 2 ^ 63 = 1 by omega]
    decide
theorem ct_22 (G : mj_G) {x : Int} (h1 : -9223372036854775808 ≤ x) (h2 : x < 9223372036854775808) (h : mj_H) : mj_Ct G (mj_mt 22) 0 0 [.long (jL x)] h (jR (.int (jI x.sign)) h) := by
  refine mj_Ct_of mj_ok tb_22 rfl rfl (Nat.le_of_ble_eq_true rfl) (fun Run hR => ?_)
  refine hR 20 0 _ _ _ _ _ _ rfl ?_
  refine jRe ?_
  exact congrArg Value.int (jL_sg h1 h2)
/-- java/lang/Math.floorMod(JJ)J; cuts at [] -/
def cd_29 : List mj_E := [(0, false, .lload_n 0, 1, 0, 0, 0, 0, 0),
  (1, false, .lload_n 2, 1, 0, 0, 0, 0, 0),
  (2, false, .lrem, 1, 0, 0, 0, 0, 0),
  (3, false, .lstore 4, 2, 0, 0, 0, 0, 0),
  (5, false, .lload_n 0, 1, 0, 0, 0, 0, 0),
  (6, false, .lload_n 2, 1, 0, 0, 0, 0, 0),
  (7, false, .lxor, 1, 0, 0, 0, 0, 0),
  (8, false, .lconst 0, 1, 0, 0, 0, 0, jL 0),
  (9, false, .lcmp, 1, 0, 0, 0, 0, 0),
  (10, false, .ifCond .ge 15, 3, 18, 0, 0, 0, 0),
  (13, false, .lload 4, 2, 0, 0, 0, 0, 0),
  (15, false, .lconst 0, 1, 0, 0, 0, 0, jL 0),
  (16, false, .lcmp, 1, 0, 0, 0, 0, 0),
  (17, false, .ifCond .eq 8, 3, 18, 0, 0, 0, 0),
  (20, false, .lload 4, 2, 0, 0, 0, 0, 0),
  (22, false, .lload_n 2, 1, 0, 0, 0, 0, 0),
  (23, false, .ladd, 1, 0, 0, 0, 0, 0),
  (24, false, .lreturn, 1, 0, 0, 0, 0, 0),
  (25, false, .lload 4, 2, 0, 0, 0, 0, 0),
  (27, false, .lreturn, 1, 0, 0, 0, 0, 0)]
def cx_29 : mj_X := (2, [], [])
theorem tb_29 : mj_tab (mj_mt 29) cx_29 cd_29 mj_mh [(0, 0, 0), (0, 0, 0), (0, 0, 0), (0, 0, 0), (0, 0, 0), (0, 0, 0), (0, 0, 0), (0, 0, 0), (0, 0, 0), (0, 0, 0), (0, 0, 0), (0, 0, 0), (0, 0, 0), (0, 0, 0), (0, 0, 0), (0, 0, 0), (0, 0, 0), (0, 0, 0), (0, 0, 0), (0, 0, 0)] = true := mj_tab_p (mj_mathPl rfl (by decide)) (by decide +kernel)
theorem jL_xn (x y : Int64) : (x ^^^ y) < 0 ↔ ¬ (x < 0 ↔ y < 0) := by
  rw [Int64.lt_iff_toBitVec_slt, Int64.lt_iff_toBitVec_slt, Int64.lt_iff_toBitVec_slt]
  show BitVec.slt _ 0#64 = true ↔ ¬ (BitVec.slt _ 0#64 = true ↔ BitVec.slt _ 0#64 = true)
  rw [BitVec.slt_zero_iff_msb_cond, BitVec.slt_zero_iff_msb_cond, BitVec.slt_zero_iff_msb_cond, Int64.toBitVec_xor, BitVec.msb_xor]
  cases x.toBitVec.msb <;> cases y.toBitVec.msb <;> decide
theorem ct_29 (G : mj_G) {x y : Int} (h1 : -9223372036854775808 < x) (h2 : x < 9223372036854775808) (h3 : 0 < y) (h4 : y < 9223372036854775808) (h : mj_H) : mj_Ct G (mj_mt 29) 0 0 [.long (jL x), .long (jL y)] h (jR (.long (jL (x % y))) h) := by
  refine mj_Ct_of mj_ok tb_29 rfl rfl (Nat.le_of_ble_eq_true rfl) (fun Run hR => ?_)
  have hm := jL_mod (a := x) (b := y) h1 h2 (by omega) h4
  have he := Int.tmod_eq_emod (a := x) (b := y)
  have hlt : x % y < y := Int.emod_lt_of_pos _ h3
  have hge : 0 ≤ x % y := Int.emod_nonneg _ (by omega)
  have hsx : (jL x ^^^ jL y) < 0 ↔ x < 0 := by
    rw [jL_xn]
    have a1 : (jL x < 0) ↔ x < 0 := jL_lt (b := 0) (by omega) h2 (by decide) (by decide)
    have a2 : (jL y < 0) ↔ y < 0 := jL_lt (b := 0) (by omega) h4 (by decide) (by decide)
    rw [a1, a2]
    omega
  refine hR 30 0 _ _ _ _ _ _ rfl ?_
  refine ⟨?_, ?_⟩
  · intro z
    have := (jL_eq0 (by omega) h4).mp z
    omega
  · refine ⟨fun c => ?_, fun c => ⟨fun c2 => ?_, fun c2 => ?_⟩⟩
    · have hx : 0 ≤ x := by
        rcases Int.lt_or_le x 0 with z | z
        · exact absurd (hsx.mpr z) (Int64.not_lt.mpr c)
        · exact z
      refine jRe ?_
      rw [hm, he, if_pos (Or.inl hx), show x % y - ((0 : Nat) : Int) = x % y by omega]
    · refine jRe ?_
      rw [hm] at c2 ⊢
      have c3 : x.tmod y = 0 := by
        have r1 := tmod_abs x y
        exact (jL_eq (by omega) (by omega) (by decide) (by decide)).mp c2
      rw [c3]
      have hd : y ∣ x := Int.dvd_of_tmod_eq_zero c3
      rw [Int.emod_eq_zero_of_dvd hd]
    · have hx : x < 0 := hsx.mp (Int64.not_le.mp c)
      refine jRe ?_
      rw [hm] at c2 ⊢
      have hn : ¬ (0 ≤ x ∨ y ∣ x) := by
        rintro (z | z)
        · omega
        · exact c2 (by rw [Int.tmod_eq_zero_of_dvd z]; exact rfl)
      rw [if_neg hn] at he
      rw [jL_add, he]
      congr 2
      omega
/-- java/lang/Math.max(II)I; cuts at [] -/
def cd_43 : List mj_E := [(0, false, .iload_n 0, 1, 0, 0, 0, 0, 0),
  (1, false, .iload_n 1, 1, 0, 0, 0, 0, 0),
  (2, false, .if_icmp .lt 7, 3, 5, 0, 0, 0, 0),
  (5, false, .iload_n 0, 1, 0, 0, 0, 0, 0),
  (6, false, .goto 4, 3, 6, 0, 0, 0, 0),
  (9, false, .iload_n 1, 1, 0, 0, 0, 0, 0),
  (10, false, .ireturn, 1, 0, 0, 0, 0, 0)]
def cx_43 : mj_X := (1, [], [])
theorem tb_43 : mj_tab (mj_mt 43) cx_43 cd_43 mj_mh [(0, 0, 0), (0, 0, 0), (0, 0, 0), (0, 0, 0), (0, 0, 0), (0, 0, 0), (0, 0, 0)] = true := mj_tab_p (mj_mathPl rfl (by decide)) (by decide +kernel)
theorem ct_43 (G : mj_G) {x y : Int} (h1 : -2147483648 ≤ x) (h2 : x < 2147483648) (h3 : -2147483648 ≤ y) (h4 : y < 2147483648) (h : mj_H) : mj_Ct G (mj_mt 43) 0 0 [.int (jI x), .int (jI y)] h (jR (.int (jI (if x < y then y else x))) h) := by
  refine mj_Ct_of mj_ok tb_43 rfl rfl (Nat.le_of_ble_eq_true rfl) (fun Run hR => ?_)
  refine hR 30 0 _ _ _ _ _ _ rfl ?_
  refine ⟨fun c => ?_, fun c => ?_⟩
  · rw [if_pos ((jI_lt h1 h2 h3 h4).mp c)]
    exact jRe rfl
  · rw [if_neg (fun z => c ((jI_lt h1 h2 h3 h4).mpr z))]
    exact jRe rfl
/-- java/lang/Math.min(II)I; cuts at [] -/
def cd_60 : List mj_E := [(0, false, .iload_n 0, 1, 0, 0, 0, 0, 0),
  (1, false, .iload_n 1, 1, 0, 0, 0, 0, 0),
  (2, false, .if_icmp .gt 7, 3, 5, 0, 0, 0, 0),
  (5, false, .iload_n 0, 1, 0, 0, 0, 0, 0),
  (6, false, .goto 4, 3, 6, 0, 0, 0, 0),
  (9, false, .iload_n 1, 1, 0, 0, 0, 0, 0),
  (10, false, .ireturn, 1, 0, 0, 0, 0, 0)]
def cx_60 : mj_X := (1, [], [])
theorem tb_60 : mj_tab (mj_mt 60) cx_60 cd_60 mj_mh [(0, 0, 0), (0, 0, 0), (0, 0, 0), (0, 0, 0), (0, 0, 0), (0, 0, 0), (0, 0, 0)] = true := mj_tab_p (mj_mathPl rfl (by decide)) (by decide +kernel)
theorem ct_60 (G : mj_G) {x y : Int} (h1 : -2147483648 ≤ x) (h2 : x < 2147483648) (h3 : -2147483648 ≤ y) (h4 : y < 2147483648) (h : mj_H) : mj_Ct G (mj_mt 60) 0 0 [.int (jI x), .int (jI y)] h (jR (.int (jI (if y < x then y else x))) h) := by
  refine mj_Ct_of mj_ok tb_60 rfl rfl (Nat.le_of_ble_eq_true rfl) (fun Run hR => ?_)
  refine hR 30 0 _ _ _ _ _ _ rfl ?_
  refine ⟨fun c => ?_, fun c => ?_⟩
  · rw [if_pos ((jI_lt h3 h4 h1 h2).mp c)]
    exact jRe rfl
  · rw [if_neg (fun z => c ((jI_lt h3 h4 h1 h2).mpr z))]
    exact jRe rfl
/-- java/lang/Integer.compare(II)I; cuts at [] -/
def cd_46 : List mj_E := [(0, false, .iload_n 0, 1, 0, 0, 0, 0, 0),
  (1, false, .iload_n 1, 1, 0, 0, 0, 0, 0),
  (2, false, .if_icmp .ge 7, 3, 5, 0, 0, 0, 0),
  (5, false, .iconst (-1), 1, 0, 0, 0, jI (-1), 0),
  (6, false, .goto 13, 3, 11, 0, 0, 0, 0),
  (9, false, .iload_n 0, 1, 0, 0, 0, 0, 0),
  (10, false, .iload_n 1, 1, 0, 0, 0, 0, 0),
  (11, false, .if_icmp .ne 7, 3, 10, 0, 0, 0, 0),
  (14, false, .iconst 0, 1, 0, 0, 0, jI 0, 0),
  (15, false, .goto 4, 3, 11, 0, 0, 0, 0),
  (18, false, .iconst 1, 1, 0, 0, 0, jI 1, 0),
  (19, false, .ireturn, 1, 0, 0, 0, 0, 0)]
def cx_46 : mj_X := (1, [], [])
theorem tb_46 : mj_tab (mj_mt 46) cx_46 cd_46 mj_mh [(0, 0, 0), (0, 0, 0), (0, 0, 0), (0, 0, 0), (0, 0, 0), (0, 0, 0), (0, 0, 0), (0, 0, 0), (0, 0, 0), (0, 0, 0), (0, 0, 0), (0, 0, 0)] = true := mj_tab_f (by decide +kernel)
theorem ct_46 (G : mj_G) {x y : Int} (h1 : -2147483648 ≤ x) (h2 : x < 2147483648) (h3 : -2147483648 ≤ y) (h4 : y < 2147483648) (h : mj_H) : mj_Ct G (mj_mt 46) 0 0 [.int (jI x), .int (jI y)] h (jR (.int (jI (if x < y then -1 else if x = y then 0 else 1))) h) := by
  refine mj_Ct_of mj_ok tb_46 rfl rfl (Nat.le_of_ble_eq_true rfl) (fun Run hR => ?_)
  refine hR 30 0 _ _ _ _ _ _ rfl ?_
  refine ⟨fun c => ⟨fun c2 => ?_, fun c2 => ?_⟩, fun c => ?_⟩
  · have c' := (jI_le h3 h4 h1 h2).mp c
    have c2' := (jI_eq h1 h2 h3 h4).mp c2
    rw [if_neg (by omega), if_pos c2']
    exact jRe rfl
  · have c' := (jI_le h3 h4 h1 h2).mp c
    have c2' : ¬ x = y := fun z => c2 ((jI_eq h1 h2 h3 h4).mpr z)
    rw [if_neg (by omega), if_neg c2']
    exact jRe rfl
  · have c' : ¬ y ≤ x := fun z => c ((jI_le h3 h4 h1 h2).mpr z)
    rw [if_pos (by omega)]
    exact jRe rfl
/-- java/lang/Integer.compareUnsigned(II)I; cuts at [] -/
def cd_45 : List mj_E := [(0, false, .iload_n 0, 1, 0, 0, 0, 0, 0),
  (1, false, .ldc 127, 2, 0, 0, 0, jI (-2147483648), 0),
  (3, false, .iadd, 1, 0, 0, 0, 0, 0),
  (4, false, .iload_n 1, 1, 0, 0, 0, 0, 0),
  (5, false, .ldc 127, 2, 0, 0, 0, jI (-2147483648), 0),
  (7, false, .iadd, 1, 0, 0, 0, 0, 0),
  (8, false, .invokestatic 259, 3, 46, 2, 0, 0, 0),
  (11, false, .ireturn, 1, 0, 0, 0, 0, 0)]
def cx_45 : mj_X := (1, [], [])
theorem tb_45 : mj_tab (mj_mt 45) cx_45 cd_45 mj_mh [(0, 0, 0), (3211, 0, 0), (0, 0, 0), (0, 0, 0), (3211, 0, 0), (0, 0, 0), (3212, 0, 0), (0, 0, 0)] = true := mj_tab_f (by decide +kernel)
theorem ct_45 (G : mj_G) {x y : Int} (h1 : 0 ≤ x) (h2 : x < 4294967296) (h3 : 0 ≤ y) (h4 : y < 4294967296) (h : mj_H) : mj_Ct G (mj_mt 45) 0 0 [.int (jI x), .int (jI y)] h (jR (.int (jI (if x < y then -1 else if x = y then 0 else 1))) h) := by
  refine mj_Ct_of mj_ok tb_45 rfl rfl (Nat.le_of_ble_eq_true rfl) (fun Run hR => ?_)
  refine hR 30 0 _ _ _ _ _ _ rfl ?_
  have e := ct_46 G (x := x + -2147483648) (y := y + -2147483648) (by omega) (by omega) (by omega) (by omega) h
  rw [← jI_add, ← jI_add] at e
  refine jcall e ?_
  refine jRe ?_
  have : (if x + -2147483648 < y + -2147483648 then (-1 : Int) else if x + -2147483648 = y + -2147483648 then 0 else 1) = (if x < y then -1 else if x = y then 0 else 1) := by
    by_cases g : x < y
    · rw [if_pos g, if_pos (by omega)]
    · rw [if_neg g, if_neg (by omega)]
      by_cases g2 : x = y
      · rw [if_pos g2, if_pos (by omega)]
      · rw [if_neg g2, if_neg (by omega)]
  rw [this]
/-- java/lang/Integer.numberOfLeadingZeros(I)I; cuts at [33, 48, 61, 73] -/
def cl_54_1 : List mj_E := (46, false, .iushr, 1, 0, 0, 0, 0, 0) ::
  (47, false, .istore_n 0, 1, 0, 0, 0, 0, 0) ::
  (48, true, .iload_n 0, 1, 0, 0, 0, 0, 0) ::
  (49, false, .bipush 16, 2, 0, 0, 0, jI 16, 0) ::
  (51, false, .if_icmp .lt 10, 3, 34, 0, 0, 0, 0) ::
  (54, false, .iinc 1 (-4), 3, 0, 0, 0, jI (-4), 0) ::
  (57, false, .iload_n 0, 1, 0, 0, 0, 0, 0) ::
  (58, false, .iconst 4, 1, 0, 0, 0, jI 4, 0) ::
  (59, false, .iushr, 1, 0, 0, 0, 0, 0) ::
  (60, false, .istore_n 0, 1, 0, 0, 0, 0, 0) ::
  (61, true, .iload_n 0, 1, 0, 0, 0, 0, 0) ::
  (62, false, .iconst 4, 1, 0, 0, 0, jI 4, 0) ::
  (63, false, .if_icmp .lt 10, 3, 42, 0, 0, 0, 0) ::
  (66, false, .iinc 1 (-2), 3, 0, 0, 0, jI (-2), 0) ::
  (69, false, .iload_n 0, 1, 0, 0, 0, 0, 0) ::
  (70, false, .iconst 2, 1, 0, 0, 0, jI 2, 0) ::
  (71, false, .iushr, 1, 0, 0, 0, 0, 0) ::
  (72, false, .istore_n 0, 1, 0, 0, 0, 0, 0) ::
  (73, true, .iload_n 1, 1, 0, 0, 0, 0, 0) ::
  (74, false, .iload_n 0, 1, 0, 0, 0, 0, 0) ::
  (75, false, .iconst 1, 1, 0, 0, 0, jI 1, 0) ::
  (76, false, .iushr, 1, 0, 0, 0, 0, 0) ::
  (77, false, .isub, 1, 0, 0, 0, 0, 0) ::
  (78, false, .ireturn, 1, 0, 0, 0, 0, 0) ::
  []
def cl_54_0 : List mj_E := (0, false, .iload_n 0, 1, 0, 0, 0, 0, 0) ::
  (1, false, .ifCond .gt 14, 3, 8, 0, 0, 0, 0) ::
  (4, false, .iload_n 0, 1, 0, 0, 0, 0, 0) ::
  (5, false, .ifCond .ne 8, 3, 6, 0, 0, 0, 0) ::
  (8, false, .bipush 32, 2, 0, 0, 0, jI 32, 0) ::
  (10, false, .goto 4, 3, 7, 0, 0, 0, 0) ::
  (13, false, .iconst 0, 1, 0, 0, 0, jI 0, 0) ::
  (14, false, .ireturn, 1, 0, 0, 0, 0, 0) ::
  (15, false, .bipush 31, 2, 0, 0, 0, jI 31, 0) ::
  (17, false, .istore_n 1, 1, 0, 0, 0, 0, 0) ::
  (18, false, .iload_n 0, 1, 0, 0, 0, 0, 0) ::
  (19, false, .ldc_w 264, 3, 0, 0, 0, jI 65536, 0) ::
  (22, false, .if_icmp .lt 11, 3, 18, 0, 0, 0, 0) ::
  (25, false, .iinc 1 (-16), 3, 0, 0, 0, jI (-16), 0) ::
  (28, false, .iload_n 0, 1, 0, 0, 0, 0, 0) ::
  (29, false, .bipush 16, 2, 0, 0, 0, jI 16, 0) ::
  (31, false, .iushr, 1, 0, 0, 0, 0, 0) ::
  (32, false, .istore_n 0, 1, 0, 0, 0, 0, 0) ::
  (33, true, .iload_n 0, 1, 0, 0, 0, 0, 0) ::
  (34, false, .sipush 256, 3, 0, 0, 0, jI 256, 0) ::
  (37, false, .if_icmp .lt 11, 3, 26, 0, 0, 0, 0) ::
  (40, false, .iinc 1 (-8), 3, 0, 0, 0, jI (-8), 0) ::
  (43, false, .iload_n 0, 1, 0, 0, 0, 0, 0) ::
  (44, false, .bipush 8, 2, 0, 0, 0, jI 8, 0) ::
  cl_54_1
def cd_54 : List mj_E := cl_54_0
def cx_54 : mj_X := (1, [], [])
theorem tb_54 : mj_tab (mj_mt 54) cx_54 cd_54 mj_mh [(0, 0, 0), (0, 0, 0), (0, 0, 0), (0, 0, 0), (0, 0, 0), (0, 0, 0), (0, 0, 0), (0, 0, 0), (0, 0, 0), (0, 0, 0), (0, 0, 0), (4010, 0, 0), (0, 0, 0), (0, 0, 0), (0, 0, 0), (0, 0, 0), (0, 0, 0), (0, 0, 0), (0, 0, 0), (0, 0, 0), (0, 0, 0), (0, 0, 0), (0, 0, 0), (0, 0, 0), (0, 0, 0), (0, 0, 0), (0, 0, 0), (0, 0, 0), (0, 0, 0), (0, 0, 0), (0, 0, 0), (0, 0, 0), (0, 0, 0), (0, 0, 0), (0, 0, 0), (0, 0, 0), (0, 0, 0), (0, 0, 0), (0, 0, 0), (0, 0, 0), (0, 0, 0), (0, 0, 0), (0, 0, 0), (0, 0, 0), (0, 0, 0), (0, 0, 0), (0, 0, 0), (0, 0, 0)] = true := mj_tab_f (by decide +kernel)
theorem jlog {a l s : Nat} (h1 : 2 ^ l ≤ a) (h2 : a < 2 ^ (l + 1)) (hs : 2 ^ s ≤ a) : s ≤ l ∧ 2 ^ (l - s) ≤ a / 2 ^ s ∧ a / 2 ^ s < 2 ^ (l - s + 1) := by
  have hsl : s ≤ l := by
    rcases Nat.lt_or_ge l s with z | z
    · have : 2 ^ (l + 1) ≤ 2 ^ s := Nat.pow_le_pow_right (by decide) z
      omega
    · exact z
  refine ⟨hsl, ?_, ?_⟩
  · rw [Nat.le_div_iff_mul_le (Nat.pow_pos (by decide)), ← Nat.pow_add, Nat.sub_add_cancel hsl]
    exact h1
  · rw [Nat.div_lt_iff_lt_mul (Nat.pow_pos (by decide)), ← Nat.pow_add]
    rw [show l - s + 1 + s = l + 1 by omega]
    exact h2
theorem ct_54 (G : mj_G) {a L : Nat} (h1 : 2 ^ L ≤ a) (h2 : a < 2 ^ (L + 1)) (hL : L < 32) (h : mj_H) : mj_Ct G (mj_mt 54) 0 0 [.int (jI a)] h (jR (.int (jI (31 - L))) h) := by
  refine mj_Ct_of mj_ok tb_54 rfl rfl (Nat.le_of_ble_eq_true rfl) (fun Run hR => ?_)
  have r73 : ∀ (b l : Nat) (n : Int) (bI nI : Int32), 2 ^ l ≤ b → b < 2 ^ (l + 1) → b < 4 → n = 31 - L + l → bI = jI b → nI = jI n → Run 73 [some (.int bI), some (.int nI)] [] h (0, 0) := by
    rintro b l n bI nI g1 g2 g3 g4 rfl rfl
    refine hR 30 42 _ _ _ _ _ _ rfl ?_
    refine jRe ?_
    rw [jI_ushr (K := 1) 1 (by decide) rfl, jI_sub]
    congr 2
    have hb : (b : Int) % 4294967296 / 2 ^ 1 = l := by
      have hl : l < 2 := by
        rcases Nat.lt_or_ge l 2 with z | z
        · exact z
        · have : 2 ^ 2 ≤ 2 ^ l := Nat.pow_le_pow_right (by decide) z
          omega
      rcases (show l = 0 ∨ l = 1 by omega) with rfl | rfl
      · omega
      · omega
    rw [hb]
    omega
  have r61 : ∀ (b l : Nat) (n : Int) (bI nI : Int32), 2 ^ l ≤ b → b < 2 ^ (l + 1) → b < 16 → n = 31 - L + l → bI = jI b → nI = jI n → Run 61 [some (.int bI), some (.int nI)] [] h (0, 0) := by
    rintro b l n bI nI g1 g2 g3 g4 rfl rfl
    refine hR 30 34 _ _ _ _ _ _ rfl ?_
    refine ⟨fun c => ?_, fun c => ?_⟩
    · have c' := (jI_lt (by omega) (by omega) (by decide) (by decide)).mp c
      exact r73 b l n _ _ g1 g2 (by omega) g4 rfl rfl
    · have c' : ¬ (b : Int) < 4 := fun z => c ((jI_lt (by omega) (by omega) (by decide) (by decide)).mpr z)
      obtain ⟨q1, q2, q3⟩ := jlog (s := 2) g1 g2 (by omega)
      refine r73 (b / 2 ^ 2) (l - 2) (n + -2) _ _ q2 q3 (by omega) (by omega) ?_ (jI_add _ _)
      rw [jI_ushr (K := 2) 2 (by decide) rfl]
      congr 1
      omega
  have r48 : ∀ (b l : Nat) (n : Int) (bI nI : Int32), 2 ^ l ≤ b → b < 2 ^ (l + 1) → b < 256 → n = 31 - L + l → bI = jI b → nI = jI n → Run 48 [some (.int bI), some (.int nI)] [] h (0, 0) := by
    rintro b l n bI nI g1 g2 g3 g4 rfl rfl
    refine hR 30 26 _ _ _ _ _ _ rfl ?_
    refine ⟨fun c => ?_, fun c => ?_⟩
    · have c' := (jI_lt (by omega) (by omega) (by decide) (by decide)).mp c
      exact r61 b l n _ _ g1 g2 (by omega) g4 rfl rfl
    · have c' : ¬ (b : Int) < 16 := fun z => c ((jI_lt (by omega) (by omega) (by decide) (by decide)).mpr z)
      obtain ⟨q1, q2, q3⟩ := jlog (s := 4) g1 g2 (by omega)
      refine r61 (b / 2 ^ 4) (l - 4) (n + -4) _ _ q2 q3 (by omega) (by omega) ?_ (jI_add _ _)
      rw [jI_ushr (K := 4) 4 (by decide) rfl]
      congr 1
      omega
  have r33 : ∀ (b l : Nat) (n : Int) (bI nI : Int32), 2 ^ l ≤ b → b < 2 ^ (l + 1) → b < 65536 → n = 31 - L + l → bI = jI b → nI = jI n → Run 33 [some (.int bI), some (.int nI)] [] h (0, 0) := by
    rintro b l n bI nI g1 g2 g3 g4 rfl rfl
    refine hR 30 18 _ _ _ _ _ _ rfl ?_
    refine ⟨fun c => ?_, fun c => ?_⟩
    · have c' := (jI_lt (by omega) (by omega) (by decide) (by decide)).mp c
      exact r48 b l n _ _ g1 g2 (by omega) g4 rfl rfl
    · have c' : ¬ (b : Int) < 256 := fun z => c ((jI_lt (by omega) (by omega) (by decide) (by decide)).mpr z)
      obtain ⟨q1, q2, q3⟩ := jlog (s := 8) g1 g2 (by omega)
      refine r48 (b / 2 ^ 8) (l - 8) (n + -8) _ _ q2 q3 (by omega) (by omega) ?_ (jI_add _ _)
      rw [jI_ushr (K := 8) 8 (by decide) rfl]
      congr 1
      omega
  have hpos : 0 < 2 ^ L := Nat.pow_pos (by decide)
  have hp32 : 2 ^ (L + 1) ≤ 2 ^ 32 := Nat.pow_le_pow_right (by decide) (by omega)
  refine hR 30 0 _ _ _ _ _ _ rfl ?_
  refine ⟨fun c => ?_, fun c => ?_⟩
  · have ha : a < 2147483648 := by
      rcases Nat.lt_or_ge a 2147483648 with z | z
      · exact z
      · exfalso
        have e : jI a = jI (a - 4294967296) := jI_ext (by rw [jI_tn]; omega)
        rw [e] at c
        have := (jI_0lt (by omega) (by omega)).mp c
        omega
    refine ⟨fun c2 => ?_, fun c2 => ?_⟩
    · have c' := (jI_lt (by omega) (by omega) (by decide) (by decide)).mp c2
      exact r33 a L 31 _ _ h1 h2 (by omega) (by omega) rfl rfl
    · have c' : ¬ (a : Int) < 65536 := fun z => c2 ((jI_lt (by omega) (by omega) (by decide) (by decide)).mpr z)
      obtain ⟨q1, q2, q3⟩ := jlog (s := 16) h1 h2 (by omega)
      refine r33 (a / 2 ^ 16) (L - 16) (31 + -16) _ _ q2 q3 (by omega) (by omega) ?_ (jI_add _ _)
      rw [jI_ushr (K := 16) 16 (by decide) rfl]
      congr 1
      omega
  · have ha : 2147483648 ≤ a := by
      rcases Nat.lt_or_ge a 2147483648 with z | z
      · exact absurd ((jI_0lt (by omega) (by omega)).mpr (by omega)) c
      · exact z
    have e : jI a = jI (a - 4294967296) := jI_ext (by rw [jI_tn]; omega)
    have hL31 : L = 31 := by
      rcases (show L = 31 ∨ L ≤ 30 by omega) with z | z
      · exact z
      · have : 2 ^ (L + 1) ≤ 2 ^ 31 := Nat.pow_le_pow_right (by decide) (by omega)
        omega
    refine ⟨fun c2 => ?_, fun c2 => ?_⟩
    · rw [e] at c2
      have := (jI_eq0 (by omega) (by omega)).mp c2
      omega
    · refine jRe ?_
      rw [hL31]
      rfl
/-- java/lang/Long.divideUnsigned(JJ)J; cuts at [] -/
def cl_57_1 : List mj_E := (34, false, .lxor, 1, 0, 0, 0, 0, 0) ::
  (35, false, .lor, 1, 0, 0, 0, 0, 0) ::
  (36, false, .bipush 63, 2, 0, 0, 0, jI 63, 0) ::
  (38, false, .lushr, 1, 0, 0, 0, 0, 0) ::
  (39, false, .ladd, 1, 0, 0, 0, 0, 0) ::
  (40, false, .lreturn, 1, 0, 0, 0, 0, 0) ::
  (41, false, .lload_n 0, 1, 0, 0, 0, 0, 0) ::
  (42, false, .lload_n 0, 1, 0, 0, 0, 0, 0) ::
  (43, false, .lload_n 2, 1, 0, 0, 0, 0, 0) ::
  (44, false, .lsub, 1, 0, 0, 0, 0, 0) ::
  (45, false, .ldc2_w 306, 3, 0, 0, 0, 0, jL (-1)) ::
  (48, false, .lxor, 1, 0, 0, 0, 0, 0) ::
  (49, false, .land, 1, 0, 0, 0, 0, 0) ::
  (50, false, .bipush 63, 2, 0, 0, 0, jI 63, 0) ::
  (52, false, .lushr, 1, 0, 0, 0, 0, 0) ::
  (53, false, .lreturn, 1, 0, 0, 0, 0, 0) ::
  []
def cl_57_0 : List mj_E := (0, false, .lload_n 2, 1, 0, 0, 0, 0, 0) ::
  (1, false, .lconst 0, 1, 0, 0, 0, 0, jL 0) ::
  (2, false, .lcmp, 1, 0, 0, 0, 0, 0) ::
  (3, false, .ifCond .lt 38, 3, 30, 0, 0, 0, 0) ::
  (6, false, .lload_n 0, 1, 0, 0, 0, 0, 0) ::
  (7, false, .iconst 1, 1, 0, 0, 0, jI 1, 0) ::
  (8, false, .lushr, 1, 0, 0, 0, 0, 0) ::
  (9, false, .lload_n 2, 1, 0, 0, 0, 0, 0) ::
  (10, false, .ldiv, 1, 0, 0, 0, 0, 0) ::
  (11, false, .iconst 1, 1, 0, 0, 0, jI 1, 0) ::
  (12, false, .lshl, 1, 0, 0, 0, 0, 0) ::
  (13, false, .lstore 4, 2, 0, 0, 0, 0, 0) ::
  (15, false, .lload_n 0, 1, 0, 0, 0, 0, 0) ::
  (16, false, .lload 4, 2, 0, 0, 0, 0, 0) ::
  (18, false, .lload_n 2, 1, 0, 0, 0, 0, 0) ::
  (19, false, .lmul, 1, 0, 0, 0, 0, 0) ::
  (20, false, .lsub, 1, 0, 0, 0, 0, 0) ::
  (21, false, .lstore 6, 2, 0, 0, 0, 0, 0) ::
  (23, false, .lload 4, 2, 0, 0, 0, 0, 0) ::
  (25, false, .lload 6, 2, 0, 0, 0, 0, 0) ::
  (27, false, .lload 6, 2, 0, 0, 0, 0, 0) ::
  (29, false, .lload_n 2, 1, 0, 0, 0, 0, 0) ::
  (30, false, .lsub, 1, 0, 0, 0, 0, 0) ::
  (31, false, .ldc2_w 306, 3, 0, 0, 0, 0, jL (-1)) ::
  cl_57_1
def cd_57 : List mj_E := cl_57_0
def cx_57 : mj_X := (2, [], [])
theorem tb_57 : mj_tab (mj_mt 57) cx_57 cd_57 mj_mh [(0, 0, 0), (0, 0, 0), (0, 0, 0), (0, 0, 0), (0, 0, 0), (0, 0, 0), (0, 0, 0), (0, 0, 0), (0, 0, 0), (0, 0, 0), (0, 0, 0), (0, 0, 0), (0, 0, 0), (0, 0, 0), (0, 0, 0), (0, 0, 0), (0, 0, 0), (0, 0, 0), (0, 0, 0), (0, 0, 0), (0, 0, 0), (0, 0, 0), (0, 0, 0), (4021, 0, 0), (0, 0, 0), (0, 0, 0), (0, 0, 0), (0, 0, 0), (0, 0, 0), (0, 0, 0), (0, 0, 0), (0, 0, 0), (0, 0, 0), (0, 0, 0), (4021, 0, 0), (0, 0, 0), (0, 0, 0), (0, 0, 0), (0, 0, 0), (0, 0, 0)] = true := mj_tab_f (by decide +kernel)
theorem ct_57 (G : mj_G) {x y : Int} (h1 : 0 ≤ x) (h2 : x < 9223372036854775808) (h3 : 0 < y) (h4 : y ≤ 4611686018427387904) (h : mj_H) : mj_Ct G (mj_mt 57) 0 0 [.long (jL x), .long (jL y)] h (jR (.long (jL (x / y))) h) := by
  refine mj_Ct_of mj_ok tb_57 rfl rfl (Nat.le_of_ble_eq_true rfl) (fun Run hR => ?_)
  refine hR 50 0 _ _ _ _ _ _ rfl ?_
  refine ⟨fun c => ?_, fun c => ⟨?_, ?_⟩⟩
  · have := (jL_lt (by omega) (by omega) (by decide) (by decide)).mp c
    omega
  · intro z
    have := (jL_eq0 (by omega) (by omega)).mp z
    omega
  · refine jRe ?_
    have e0 : x % 18446744073709551616 = x := Int.emod_eq_of_lt h1 (by omega)
    have hq0 : 0 ≤ x / 2 / y := Int.ediv_nonneg (by omega) (by omega)
    have e1 : (jL x).toUInt64 >>> ((jI 1).toInt64.toUInt64 &&& Int64.toUInt64 63) = ((jL x).toUInt64 >>> ((jI 1).toInt64.toUInt64 &&& Int64.toUInt64 63)) := rfl
    rw [jL_ushr (K := 1) 1 (by decide) rfl, e0, Int.pow_one, jL_div (by omega) (by omega) (by omega) (by omega), Int.tdiv_eq_ediv_of_nonneg (by omega), jL_shl (K := 1) 1 (by decide) rfl, Int.pow_one, jL_mul, jL_sub, jL_sub]
    have hd1 := Int.mul_ediv_add_emod (x / 2) y
    have hd2 : 0 ≤ x / 2 % y := Int.emod_nonneg _ (by omega)
    have hd3 : x / 2 % y < y := Int.emod_lt_of_pos _ h3
    have hd4 := Int.mul_ediv_add_emod x y
    have hd5 : 0 ≤ x % y := Int.emod_nonneg _ (by omega)
    have hd6 : x % y < y := Int.emod_lt_of_pos _ h3
    have hr : x - x / 2 / y * 2 * y = 2 * (x / 2 % y) + x % 2 := by
      have : x / 2 / y * 2 * y = 2 * (y * (x / 2 / y)) := by grind
      rw [this]
      omega
    rw [hr]
    generalize hrr : 2 * (x / 2 % y) + x % 2 = r at hr
    have hr0 : 0 ≤ r := by omega
    have hr1 : r < 2 * y := by omega
    have key : ((jL r ||| (jL (r - y) ^^^ jL (-1))).toUInt64 >>> ((jI 63).toInt64.toUInt64 &&& Int64.toUInt64 63)).toInt64 = jL (if r < y then 0 else 1) := by
      have en : jL (r - y) ^^^ jL (-1) = jL (-(r - y) - 1) := by
        have a1 : jL (r - y) ^^^ jL (-1) = ~~~ jL (r - y) := by
          apply Int64.toBitVec_inj.mp
          rw [Int64.toBitVec_xor, Int64.toBitVec_not]
          show _ ^^^ BitVec.allOnes 64 = _
          rw [BitVec.xor_allOnes]
        rw [a1]
        apply Int64.toInt_inj.mp
        rw [Int64.toInt_not, jL_to (by omega) (by omega), jL_to (by omega) (by omega)]
        exact Int.bmod_eq_of_le (by omega) (by omega)
      rw [en]
      have eo : jL r ||| jL (-(r - y) - 1) = jL ((jL r ||| jL (-(r - y) - 1)).toInt) := (jL_of _).symm
      rw [eo, jL_ushr (K := 63) 63 (by decide) rfl]
      have hsgn : (jL r ||| jL (-(r - y) - 1)).toInt < 0 ↔ ¬ r < y := by
        have b1 : (jL r ||| jL (-(r - y) - 1)).toInt < 0 ↔ (jL r ||| jL (-(r - y) - 1)) < 0 := by
          rw [Int64.lt_iff_toInt_lt]
          rfl
        have b2 : ∀ u v : Int64, (u ||| v) < 0 ↔ (u < 0 ∨ v < 0) := by
          intro u v
          rw [Int64.lt_iff_toBitVec_slt, Int64.lt_iff_toBitVec_slt, Int64.lt_iff_toBitVec_slt]
          show BitVec.slt _ 0#64 = true ↔ (BitVec.slt _ 0#64 = true ∨ BitVec.slt _ 0#64 = true)
          rw [BitVec.slt_zero_iff_msb_cond, BitVec.slt_zero_iff_msb_cond, BitVec.slt_zero_iff_msb_cond, Int64.toBitVec_or, BitVec.msb_or]
          cases u.toBitVec.msb <;> cases v.toBitVec.msb <;> decide
        have b3 : (jL r < 0) ↔ r < 0 := jL_lt (b := 0) (by omega) (by omega) (by decide) (by decide)
        have b4 : (jL (-(r - y) - 1) < 0) ↔ -(r - y) - 1 < 0 := jL_lt (b := 0) (by omega) (by omega) (by decide) (by decide)
        rw [b1, b2, b3, b4]
        omega
      have hrg := jL_rg (jL r ||| jL (-(r - y) - 1))
      generalize (jL r ||| jL (-(r - y) - 1)).toInt = z at hsgn hrg
      congr 1
      by_cases g : r < y
      · rw [if_pos g]
        have : ¬ z < 0 := fun q => hsgn.mp q g
        omega
      · rw [if_neg g]
        have : z < 0 := hsgn.mpr g
        omega
    rw [key, jL_add]
    congr 2
    by_cases g : r < y
    · rw [if_pos g]
      have hx : x = y * (x / 2 / y * 2) + r := by
        have : y * (x / 2 / y * 2) = x / 2 / y * 2 * y := Int.mul_comm _ _
        omega
      have : x / y = x / 2 / y * 2 := by
        generalize hz : x / 2 / y * 2 = z at hx
        rw [hx, Int.add_comm, Int.add_mul_ediv_left _ _ (by omega), Int.ediv_eq_zero_of_lt hr0 g]
        omega
      omega
    · rw [if_neg g]
      have hx : x = y * (x / 2 / y * 2 + 1) + (r - y) := by
        have : y * (x / 2 / y * 2 + 1) = x / 2 / y * 2 * y + y := by rw [Int.mul_add, Int.mul_one, Int.mul_comm]
        omega
      have : x / y = x / 2 / y * 2 + 1 := by
        generalize hz : x / 2 / y * 2 + 1 = z at hx
        rw [hx, Int.add_comm, Int.add_mul_ediv_left _ _ (by omega), Int.ediv_eq_zero_of_lt (by omega) (by omega)]
        omega
      omega
