/-! contracts: forms and the reducer -/
/-- it returns nothing and leaves the heap g -/
def jV (g : mj_H) : mj_Q := fun o h' => o = .returned none ∧ h' = g
/-- it returns v and leaves the heap g -/
def jW (v : Value) (g : mj_H) : mj_Q := fun o h' => o = .returned (some v) ∧ h' = g
theorem jcallV {G : mj_G} {j : Nat} {av : List Value} {h g : mj_H} {bu : Nat × Nat} {k : Outcome → mj_H → Nat × Nat → Prop} (hc : mj_Ct G (mj_mt j) 0 0 av h (jV g)) (hk : k (.returned none) g bu) : mj_call G j av h bu k :=
  ⟨0, 0, _, hc, Nat.zero_le _, Nat.zero_le _, by rintro o h' ⟨rfl, rfl⟩; exact hk⟩
theorem jcallW {G : mj_G} {j : Nat} {av : List Value} {h g : mj_H} {bu : Nat × Nat} {k : Outcome → mj_H → Nat × Nat → Prop} {v : Value} (hc : mj_Ct G (mj_mt j) 0 0 av h (jW v g)) (hk : k (.returned (some v)) g bu) : mj_call G j av h bu k :=
  ⟨0, 0, _, hc, Nat.zero_le _, Nat.zero_le _, by rintro o h' ⟨rfl, rfl⟩; exact hk⟩
theorem jcallP {G : mj_G} {j : Nat} {av : List Value} {h : mj_H} {bu : Nat × Nat} {k : Outcome → mj_H → Nat × Nat → Prop} {Po : mj_Q} (hc : mj_Ct G (mj_mt j) 0 0 av h Po) (hk : ∀ o h', Po o h' → k o h' bu) : mj_call G j av h bu k :=
  ⟨0, 0, _, hc, Nat.zero_le _, Nat.zero_le _, hk⟩
theorem jWe {v w : Value} {h : mj_H} (e : v = w) : jW w h (.returned (some v)) h := ⟨by rw [e], rfl⟩
theorem jWh {v w : Value} {h g : mj_H} (e : v = w) (eh : g = h) : jW w h (.returned (some v)) g := ⟨by rw [e], eh⟩
/-- three longs of a form -/
def sF (h : mj_H) (f : Nat) (x y z : Int64) : mj_H := sJ (sJ (sJ h f 0 x) f 1 y) f 2 z
def isF (h : mj_H) (f : Nat) (a b c : Int) : Prop := hK h f = 16 ∧ hJ h f 0 = jL a ∧ hJ h f 1 = jL b ∧ hJ h f 2 = jL c
theorem mj_up_up {α : Type} (f : Nat → Nat → α) (a k : Nat) (v w : α) : mj_up (mj_up f a k v) a k w = mj_up f a k w := by
  funext x y
  by_cases h : x = a ∧ y = k <;> simp [mj_up, h]
theorem mj_up_comm {α : Type} (f : Nat → Nat → α) {a k a' k' : Nat} (hne : ¬ (a = a' ∧ k = k')) (v w : α) : mj_up (mj_up f a k v) a' k' w = mj_up (mj_up f a' k' w) a k v := by
  funext x y
  simp only [mj_up]
  by_cases h1 : x = a ∧ y = k
  · by_cases h2 : x = a' ∧ y = k'
    · exact absurd ⟨h1.1.symm.trans h2.1, h1.2.symm.trans h2.2⟩ hne
    · rw [if_neg h2, if_pos h1, if_pos h1]
  · by_cases h2 : x = a' ∧ y = k'
    · rw [if_pos h2, if_neg h1, if_pos h2]
    · rw [if_neg h2, if_neg h1, if_neg h1, if_neg h2]
theorem sJ_sJ (h : mj_H) (a k : Nat) (v w : Int64) : sJ (sJ h a k v) a k w = sJ h a k w := by
  unfold sJ
  simp only [mj_up_up]
theorem sJ_comm (h : mj_H) {a k a' k' : Nat} (hne : ¬ (a = a' ∧ k = k')) (v w : Int64) : sJ (sJ h a k v) a' k' w = sJ (sJ h a' k' w) a k v := by
  unfold sJ
  simp only [mj_up_comm _ hne]
theorem sF_sF (h : mj_H) (f : Nat) (x y z x' y' z' : Int64) : sF (sF h f x y z) f x' y' z' = sF h f x' y' z' := by
  unfold sF
  rw [sJ_comm (sJ (sJ h f 0 x) f 1 y) (by simp) z x', sJ_comm (sJ h f 0 x) (by simp) y x', sJ_sJ, sJ_comm _ (by simp) z y', sJ_sJ, sJ_sJ]
theorem sF_0 (h : mj_H) (f : Nat) (x y z : Int64) : hJ (sF h f x y z) f 0 = x := by simp [sF, sJ, hJ, mj_up]
theorem sF_1 (h : mj_H) (f : Nat) (x y z : Int64) : hJ (sF h f x y z) f 1 = y := by simp [sF, sJ, hJ, mj_up]
theorem sF_2 (h : mj_H) (f : Nat) (x y z : Int64) : hJ (sF h f x y z) f 2 = z := by simp [sF, sJ, hJ, mj_up]
theorem sF_o (h : mj_H) {f g : Nat} (hne : g ≠ f) (x y z : Int64) (k : Nat) : hJ (sF h f x y z) g k = hJ h g k := by simp [sF, sJ, hJ, mj_up, hne]
theorem isF_sF (h : mj_H) {f : Nat} (hk : hK h f = 16) (a b c : Int) : isF (sF h f (jL a) (jL b) (jL c)) f a b c := ⟨hk, sF_0 _ _ _ _ _, sF_1 _ _ _ _ _, sF_2 _ _ _ _ _⟩
/-- FormHouse$Form.be(JJJ)V; cuts at [] -/
def cd_24 : List mj_E := [(0, false, .aload_n 0, 1, 0, 0, 0, 0, 0),
  (1, false, .lload_n 1, 1, 0, 0, 0, 0, 0),
  (2, false, .putfield 7, 3, 6, 0, 1, 0, 0),
  (5, false, .aload_n 0, 1, 0, 0, 0, 0, 0),
  (6, false, .lload_n 3, 1, 0, 0, 0, 0, 0),
  (7, false, .putfield 13, 3, 6, 1, 1, 0, 0),
  (10, false, .aload_n 0, 1, 0, 0, 0, 0, 0),
  (11, false, .lload 5, 2, 0, 0, 0, 0, 0),
  (13, false, .putfield 16, 3, 6, 2, 1, 0, 0),
  (16, false, .return_, 1, 0, 0, 0, 0, 0)]
def cx_24 : mj_X := (0, [], [])
theorem tb_24 : mj_tab (mj_mt 24) cx_24 cd_24 mj_mh [(0, 0, 0), (0, 0, 0), (1156, 0, 0), (0, 0, 0), (0, 0, 0), (1165, 0, 0), (0, 0, 0), (0, 0, 0), (1174, 0, 0), (0, 0, 0)] = true := mj_tab_f (by decide +kernel)
theorem ct_24 (G : mj_G) {h : mj_H} {f : Nat} (hf : hK h f = 16) (x y z : Int64) : mj_Ct G (mj_mt 24) 0 0 [.ref f, .long x, .long y, .long z] h (jV (sF h f x y z)) := by
  refine mj_Ct_of mj_ok tb_24 rfl rfl (Nat.le_of_ble_eq_true rfl) (fun Run hR => ?_)
  refine hR 20 0 _ _ _ _ _ _ rfl ?_
  exact ⟨hf, hf, hf, rfl, rfl⟩
/-- FormHouse$Form.like(LFormHouse$Form;)V; cuts at [] -/
def cd_25 : List mj_E := [(0, false, .aload_n 0, 1, 0, 0, 0, 0, 0),
  (1, false, .aload_n 1, 1, 0, 0, 0, 0, 0),
  (2, false, .getfield 7, 3, 6, 0, 1, 0, 0),
  (5, false, .aload_n 1, 1, 0, 0, 0, 0, 0),
  (6, false, .getfield 13, 3, 6, 1, 1, 0, 0),
  (9, false, .aload_n 1, 1, 0, 0, 0, 0, 0),
  (10, false, .getfield 16, 3, 6, 2, 1, 0, 0),
  (13, false, .invokevirtual 19, 3, 24, 3, 6, 0, 0),
  (16, false, .return_, 1, 0, 0, 0, 0, 0)]
def cx_25 : mj_X := (0, [], [])
theorem tb_25 : mj_tab (mj_mt 25) cx_25 cd_25 mj_mh [(0, 0, 0), (0, 0, 0), (1156, 0, 0), (0, 0, 0), (1165, 0, 0), (0, 0, 0), (1174, 0, 0), (3082, 0, 0), (0, 0, 0)] = true := mj_tab_f (by decide +kernel)
theorem ct_25 (G : mj_G) {h : mj_H} {f g : Nat} (hf : hK h f = 16) (hg : hK h g = 16) : mj_Ct G (mj_mt 25) 0 0 [.ref f, .ref g] h (jV (sF h f (hJ h g 0) (hJ h g 1) (hJ h g 2))) := by
  refine mj_Ct_of mj_ok tb_25 rfl rfl (Nat.le_of_ble_eq_true rfl) (fun Run hR => ?_)
  refine hR 20 0 _ _ _ _ _ _ rfl ?_
  refine ⟨hg, hg, hg, hf, jcallV (ct_24 G hf _ _ _) ?_⟩
  exact ⟨rfl, rfl⟩
/-- FormHouse$Form.is(LFormHouse$Form;)Z; cuts at [] -/
def cd_51 : List mj_E := [(0, false, .aload_n 0, 1, 0, 0, 0, 0, 0),
  (1, false, .getfield 7, 3, 6, 0, 1, 0, 0),
  (4, false, .aload_n 1, 1, 0, 0, 0, 0, 0),
  (5, false, .getfield 7, 3, 6, 0, 1, 0, 0),
  (8, false, .lcmp, 1, 0, 0, 0, 0, 0),
  (9, false, .ifCond .ne 31, 3, 20, 0, 0, 0, 0),
  (12, false, .aload_n 0, 1, 0, 0, 0, 0, 0),
  (13, false, .getfield 13, 3, 6, 1, 1, 0, 0),
  (16, false, .aload_n 1, 1, 0, 0, 0, 0, 0),
  (17, false, .getfield 13, 3, 6, 1, 1, 0, 0),
  (20, false, .lcmp, 1, 0, 0, 0, 0, 0),
  (21, false, .ifCond .ne 19, 3, 20, 0, 0, 0, 0),
  (24, false, .aload_n 0, 1, 0, 0, 0, 0, 0),
  (25, false, .getfield 16, 3, 6, 2, 1, 0, 0),
  (28, false, .aload_n 1, 1, 0, 0, 0, 0, 0),
  (29, false, .getfield 16, 3, 6, 2, 1, 0, 0),
  (32, false, .lcmp, 1, 0, 0, 0, 0, 0),
  (33, false, .ifCond .ne 7, 3, 20, 0, 0, 0, 0),
  (36, false, .iconst 1, 1, 0, 0, 0, jI 1, 0),
  (37, false, .goto 4, 3, 21, 0, 0, 0, 0),
  (40, false, .iconst 0, 1, 0, 0, 0, jI 0, 0),
  (41, false, .ireturn, 1, 0, 0, 0, 0, 0)]
def cx_51 : mj_X := (4, [], [])
theorem tb_51 : mj_tab (mj_mt 51) cx_51 cd_51 mj_mh [(0, 0, 0), (1156, 0, 0), (0, 0, 0), (1156, 0, 0), (0, 0, 0), (0, 0, 0), (0, 0, 0), (1165, 0, 0), (0, 0, 0), (1165, 0, 0), (0, 0, 0), (0, 0, 0), (0, 0, 0), (1174, 0, 0), (0, 0, 0), (1174, 0, 0), (0, 0, 0), (0, 0, 0), (0, 0, 0), (0, 0, 0), (0, 0, 0), (0, 0, 0)] = true := mj_tab_f (by decide +kernel)
theorem ct_51 (G : mj_G) {h : mj_H} {f g : Nat} {a b c a' b' c' : Int} (hf : isF h f a b c) (hg : isF h g a' b' c') (h1 : -9223372036854775808 ≤ a ∧ a < 9223372036854775808 ∧ -9223372036854775808 ≤ b ∧ b < 9223372036854775808 ∧ -9223372036854775808 ≤ c ∧ c < 9223372036854775808) (h2 : -9223372036854775808 ≤ a' ∧ a' < 9223372036854775808 ∧ -9223372036854775808 ≤ b' ∧ b' < 9223372036854775808 ∧ -9223372036854775808 ≤ c' ∧ c' < 9223372036854775808) : mj_Ct G (mj_mt 51) 0 0 [.ref f, .ref g] h (jR (.int (jI (if a = a' ∧ b = b' ∧ c = c' then 1 else 0))) h) := by
  obtain ⟨kf, fa, fb, fc⟩ := hf
  obtain ⟨kg, ga, gb, gc⟩ := hg
  refine mj_Ct_of mj_ok tb_51 rfl rfl (Nat.le_of_ble_eq_true rfl) (fun Run hR => ?_)
  refine hR 30 0 _ _ _ _ _ _ rfl ?_
  refine ⟨kf, kg, fun c1 => ⟨kf, kg, fun c2 => ⟨kf, kg, fun c3 => ⟨Or.inr rfl, ?_⟩, fun c3 => ⟨Or.inl rfl, ?_⟩⟩, fun c2 => ⟨Or.inl rfl, ?_⟩⟩, fun c1 => ⟨Or.inl rfl, ?_⟩⟩
  · rw [fa, ga] at c1
    rw [fb, gb] at c2
    rw [fc, gc] at c3
    simp (disch := omega) only [mj_lcm, jI_lt, jI_le, jI_eq, jL_lt, jL_le, jL_eq, jI_lt0, jI_0le, jI_0lt, jI_le0, jI_eq0, jL_eq0, jI_L, jI_add, jI_sub, jI_mul, jI_neg, jL_add, jL_sub, jL_mul, jL_neg, jL_I, jI_div, jI_mod, jL_div, jL_mod] at c1 c2 c3
    rw [if_pos (by omega)]
    exact jRe rfl
  · rw [fc, gc] at c3
    simp (disch := omega) only [mj_lcm, jI_lt, jI_le, jI_eq, jL_lt, jL_le, jL_eq, jI_lt0, jI_0le, jI_0lt, jI_le0, jI_eq0, jL_eq0, jI_L, jI_add, jI_sub, jI_mul, jI_neg, jL_add, jL_sub, jL_mul, jL_neg, jL_I, jI_div, jI_mod, jL_div, jL_mod] at c3
    rw [if_neg (by omega)]
    exact jRe rfl
  · rw [fb, gb] at c2
    simp (disch := omega) only [mj_lcm, jI_lt, jI_le, jI_eq, jL_lt, jL_le, jL_eq, jI_lt0, jI_0le, jI_0lt, jI_le0, jI_eq0, jL_eq0, jI_L, jI_add, jI_sub, jI_mul, jI_neg, jL_add, jL_sub, jL_mul, jL_neg, jL_I, jI_div, jI_mod, jL_div, jL_mod] at c2
    rw [if_neg (by omega)]
    exact jRe rfl
  · rw [fa, ga] at c1
    simp (disch := omega) only [mj_lcm, jI_lt, jI_le, jI_eq, jL_lt, jL_le, jL_eq, jI_lt0, jI_0le, jI_0lt, jI_le0, jI_eq0, jL_eq0, jI_L, jI_add, jI_sub, jI_mul, jI_neg, jL_add, jL_sub, jL_mul, jL_neg, jL_I, jI_div, jI_mod, jL_div, jL_mod] at c1
    rw [if_neg (by omega)]
    exact jRe rfl
/-- FormHouse$Form.isBefore(LFormHouse$Form;)Z; cuts at [] -/
def cd_84 : List mj_E := [(0, false, .aload_n 0, 1, 0, 0, 0, 0, 0),
  (1, false, .getfield 7, 3, 6, 0, 1, 0, 0),
  (4, false, .aload_n 1, 1, 0, 0, 0, 0, 0),
  (5, false, .getfield 7, 3, 6, 0, 1, 0, 0),
  (8, false, .lcmp, 1, 0, 0, 0, 0, 0),
  (9, false, .ifCond .lt 27, 3, 18, 0, 0, 0, 0),
  (12, false, .aload_n 0, 1, 0, 0, 0, 0, 0),
  (13, false, .getfield 7, 3, 6, 0, 1, 0, 0),
  (16, false, .aload_n 1, 1, 0, 0, 0, 0, 0),
  (17, false, .getfield 7, 3, 6, 0, 1, 0, 0),
  (20, false, .lcmp, 1, 0, 0, 0, 0, 0),
  (21, false, .ifCond .ne 19, 3, 20, 0, 0, 0, 0),
  (24, false, .aload_n 0, 1, 0, 0, 0, 0, 0),
  (25, false, .getfield 13, 3, 6, 1, 1, 0, 0),
  (28, false, .aload_n 1, 1, 0, 0, 0, 0, 0),
  (29, false, .getfield 13, 3, 6, 1, 1, 0, 0),
  (32, false, .lcmp, 1, 0, 0, 0, 0, 0),
  (33, false, .ifCond .ge 7, 3, 20, 0, 0, 0, 0),
  (36, false, .iconst 1, 1, 0, 0, 0, jI 1, 0),
  (37, false, .goto 4, 3, 21, 0, 0, 0, 0),
  (40, false, .iconst 0, 1, 0, 0, 0, jI 0, 0),
  (41, false, .ireturn, 1, 0, 0, 0, 0, 0)]
def cx_84 : mj_X := (4, [], [])
theorem tb_84 : mj_tab (mj_mt 84) cx_84 cd_84 mj_mh [(0, 0, 0), (1156, 0, 0), (0, 0, 0), (1156, 0, 0), (0, 0, 0), (0, 0, 0), (0, 0, 0), (1156, 0, 0), (0, 0, 0), (1156, 0, 0), (0, 0, 0), (0, 0, 0), (0, 0, 0), (1165, 0, 0), (0, 0, 0), (1165, 0, 0), (0, 0, 0), (0, 0, 0), (0, 0, 0), (0, 0, 0), (0, 0, 0), (0, 0, 0)] = true := mj_tab_f (by decide +kernel)
theorem ct_84 (G : mj_G) {h : mj_H} {f g : Nat} {a b c a' b' c' : Int} (hf : isF h f a b c) (hg : isF h g a' b' c') (h1 : -9223372036854775808 ≤ a ∧ a < 9223372036854775808 ∧ -9223372036854775808 ≤ b ∧ b < 9223372036854775808) (h2 : -9223372036854775808 ≤ a' ∧ a' < 9223372036854775808 ∧ -9223372036854775808 ≤ b' ∧ b' < 9223372036854775808) : mj_Ct G (mj_mt 84) 0 0 [.ref f, .ref g] h (jR (.int (jI (if a < a' ∨ (a = a' ∧ b < b') then 1 else 0))) h) := by
  obtain ⟨kf, fa, fb, fc⟩ := hf
  obtain ⟨kg, ga, gb, gc⟩ := hg
  refine mj_Ct_of mj_ok tb_84 rfl rfl (Nat.le_of_ble_eq_true rfl) (fun Run hR => ?_)
  refine hR 30 0 _ _ _ _ _ _ rfl ?_
  refine ⟨kf, kg, fun c1 => ⟨Or.inr rfl, ?_⟩, fun c1 => ⟨kf, kg, fun c2 => ⟨kf, kg, fun c3 => ⟨Or.inl rfl, ?_⟩, fun c3 => ⟨Or.inr rfl, ?_⟩⟩, fun c2 => ⟨Or.inl rfl, ?_⟩⟩⟩
  · simp only [mj_lcm, fa, ga] at c1
    simp (disch := omega) only [mj_lcm, jI_lt, jI_le, jI_eq, jL_lt, jL_le, jL_eq, jI_lt0, jI_0le, jI_0lt, jI_le0, jI_eq0, jL_eq0, jI_L, jI_add, jI_sub, jI_mul, jI_neg, jL_add, jL_sub, jL_mul, jL_neg, jL_I, jI_div, jI_mod, jL_div, jL_mod] at c1
    rw [if_pos (by omega)]
    exact jRe rfl
  · simp only [mj_lcm, fa, ga, fb, gb] at c1 c2 c3
    simp (disch := omega) only [mj_lcm, jI_lt, jI_le, jI_eq, jL_lt, jL_le, jL_eq, jI_lt0, jI_0le, jI_0lt, jI_le0, jI_eq0, jL_eq0, jI_L, jI_add, jI_sub, jI_mul, jI_neg, jL_add, jL_sub, jL_mul, jL_neg, jL_I, jI_div, jI_mod, jL_div, jL_mod] at c1 c2 c3
    rw [if_neg (by omega)]
    exact jRe rfl
  · simp only [mj_lcm, fa, ga, fb, gb] at c1 c2 c3
    simp (disch := omega) only [mj_lcm, jI_lt, jI_le, jI_eq, jL_lt, jL_le, jL_eq, jI_lt0, jI_0le, jI_0lt, jI_le0, jI_eq0, jL_eq0, jI_L, jI_add, jI_sub, jI_mul, jI_neg, jL_add, jL_sub, jL_mul, jL_neg, jL_I, jI_div, jI_mod, jL_div, jL_mod] at c1 c2 c3
    rw [if_pos (by omega)]
    exact jRe rfl
  · simp only [mj_lcm, fa, ga, fb, gb] at c1 c2
    simp (disch := omega) only [mj_lcm, jI_lt, jI_le, jI_eq, jL_lt, jL_le, jL_eq, jI_lt0, jI_0le, jI_0lt, jI_le0, jI_eq0, jL_eq0, jI_L, jI_add, jI_sub, jI_mul, jI_neg, jL_add, jL_sub, jL_mul, jL_neg, jL_I, jI_div, jI_mod, jL_div, jL_mod] at c1 c2
    rw [if_neg (by omega)]
    exact jRe rfl
/-- FormHouse$Form.discriminant()J; cuts at [] -/
def cd_133 : List mj_E := [(0, false, .aload_n 0, 1, 0, 0, 0, 0, 0),
  (1, false, .getfield 13, 3, 6, 1, 1, 0, 0),
  (4, false, .aload_n 0, 1, 0, 0, 0, 0, 0),
  (5, false, .getfield 13, 3, 6, 1, 1, 0, 0),
  (8, false, .lmul, 1, 0, 0, 0, 0, 0),
  (9, false, .ldc2_w 23, 3, 0, 0, 0, 0, jL 4),
  (12, false, .aload_n 0, 1, 0, 0, 0, 0, 0),
  (13, false, .getfield 7, 3, 6, 0, 1, 0, 0),
  (16, false, .lmul, 1, 0, 0, 0, 0, 0),
  (17, false, .aload_n 0, 1, 0, 0, 0, 0, 0),
  (18, false, .getfield 16, 3, 6, 2, 1, 0, 0),
  (21, false, .lmul, 1, 0, 0, 0, 0, 0),
  (22, false, .lsub, 1, 0, 0, 0, 0, 0),
  (23, false, .lreturn, 1, 0, 0, 0, 0, 0)]
def cx_133 : mj_X := (2, [], [])
theorem tb_133 : mj_tab (mj_mt 133) cx_133 cd_133 mj_mh [(0, 0, 0), (1165, 0, 0), (0, 0, 0), (1165, 0, 0), (0, 0, 0), (5207, 0, 0), (0, 0, 0), (1156, 0, 0), (0, 0, 0), (0, 0, 0), (1174, 0, 0), (0, 0, 0), (0, 0, 0), (0, 0, 0)] = true := mj_tab_f (by decide +kernel)
theorem ct_133 (G : mj_G) {h : mj_H} {f : Nat} {a b c : Int} (hf : isF h f a b c) : mj_Ct G (mj_mt 133) 0 0 [.ref f] h (jR (.long (jL (b * b - 4 * a * c))) h) := by
  obtain ⟨kf, fa, fb, fc⟩ := hf
  refine mj_Ct_of mj_ok tb_133 rfl rfl (Nat.le_of_ble_eq_true rfl) (fun Run hR => ?_)
  refine hR 30 0 _ _ _ _ _ _ rfl ?_
  refine ⟨kf, kf, kf, kf, jRe ?_⟩
  rw [fa, fb, fc, jL_mul, jL_mul, jL_mul, jL_sub]
/-- FormHouse$Form.content()J; cuts at [] -/
def cd_67 : List mj_E := [(0, false, .aload_n 0, 1, 0, 0, 0, 0, 0),
  (1, false, .getfield 7, 3, 6, 0, 1, 0, 0),
  (4, false, .aload_n 0, 1, 0, 0, 0, 0, 0),
  (5, false, .getfield 13, 3, 6, 1, 1, 0, 0),
  (8, false, .invokestatic 25, 3, 68, 2, 0, 0, 0),
  (11, false, .aload_n 0, 1, 0, 0, 0, 0, 0),
  (12, false, .getfield 16, 3, 6, 2, 1, 0, 0),
  (15, false, .invokestatic 25, 3, 68, 2, 0, 0, 0),
  (18, false, .lreturn, 1, 0, 0, 0, 0, 0)]
def cx_67 : mj_X := (2, [], [])
theorem tb_67 : mj_tab (mj_mt 67) cx_67 cd_67 mj_mh [(0, 0, 0), (1156, 0, 0), (0, 0, 0), (1165, 0, 0), (4066, 0, 0), (0, 0, 0), (1174, 0, 0), (4066, 0, 0), (0, 0, 0)] = true := mj_tab_f (by decide +kernel)
theorem ct_67 (G : mj_G) {h : mj_H} {f : Nat} {a b c : Int} (hf : isF h f a b c) (h1 : -9223372036854775808 < a ∧ a < 9223372036854775808 ∧ -9223372036854775808 < b ∧ b < 9223372036854775808 ∧ -9223372036854775808 < c ∧ c < 9223372036854775808) : mj_Ct G (mj_mt 67) 0 0 [.ref f] h (jR (.long (jL (Int.gcd (Int.gcd a b) c))) h) := by
  obtain ⟨kf, fa, fb, fc⟩ := hf
  refine mj_Ct_of mj_ok tb_67 rfl rfl (Nat.le_of_ble_eq_true rfl) (fun Run hR => ?_)
  have hg : (Int.gcd a b : Int) < 9223372036854775808 := by
    by_cases z : a = 0
    · by_cases y : b = 0
      · subst z y
        decide
      · have := Int.gcd_le_natAbs_right a (b := b) y
        omega
    · have := Int.gcd_le_natAbs_left (a := a) b z
      omega
  refine hR 30 0 _ _ _ _ _ _ rfl ?_
  refine ⟨kf, kf, ?_⟩
  rw [fa, fb]
  refine jcall (ct_68 G h1.1 h1.2.1 h1.2.2.1 h1.2.2.2.1 h) ?_
  refine ⟨kf, ?_⟩
  rw [fc]
  refine jcall (ct_68 G (by omega) (by omega) h1.2.2.2.2.1 h1.2.2.2.2.2 h) ?_
  exact jRe rfl
/-- FormHouse$Form.coefficient(I)J; cuts at [] -/
def cd_107 : List mj_E := [(0, false, .iload_n 1, 1, 0, 0, 0, 0, 0),
  (1, false, .ifCond .ne 10, 3, 5, 0, 0, 0, 0),
  (4, false, .aload_n 0, 1, 0, 0, 0, 0, 0),
  (5, false, .getfield 7, 3, 6, 0, 1, 0, 0),
  (8, false, .goto 19, 3, 13, 0, 0, 0, 0),
  (11, false, .iload_n 1, 1, 0, 0, 0, 0, 0),
  (12, false, .iconst 1, 1, 0, 0, 0, jI 1, 0),
  (13, false, .if_icmp .ne 10, 3, 11, 0, 0, 0, 0),
  (16, false, .aload_n 0, 1, 0, 0, 0, 0, 0),
  (17, false, .getfield 13, 3, 6, 1, 1, 0, 0),
  (20, false, .goto 7, 3, 13, 0, 0, 0, 0),
  (23, false, .aload_n 0, 1, 0, 0, 0, 0, 0),
  (24, false, .getfield 16, 3, 6, 2, 1, 0, 0),
  (27, false, .lreturn, 1, 0, 0, 0, 0, 0)]
def cx_107 : mj_X := (2, [], [])
theorem tb_107 : mj_tab (mj_mt 107) cx_107 cd_107 mj_mh [(0, 0, 0), (0, 0, 0), (0, 0, 0), (1156, 0, 0), (0, 0, 0), (0, 0, 0), (0, 0, 0), (0, 0, 0), (0, 0, 0), (1165, 0, 0), (0, 0, 0), (0, 0, 0), (1174, 0, 0), (0, 0, 0)] = true := mj_tab_f (by decide +kernel)
theorem ct_107 (G : mj_G) {h : mj_H} {f : Nat} {a b c k : Int} (hf : isF h f a b c) (hk : 0 ≤ k ∧ k < 3) : mj_Ct G (mj_mt 107) 0 0 [.ref f, .int (jI k)] h (jR (.long (jL (if k = 0 then a else if k = 1 then b else c))) h) := by
  obtain ⟨kf, fa, fb, fc⟩ := hf
  refine mj_Ct_of mj_ok tb_107 rfl rfl (Nat.le_of_ble_eq_true rfl) (fun Run hR => ?_)
  refine hR 30 0 _ _ _ _ _ _ rfl ?_
  refine ⟨fun c1 => ⟨kf, ?_⟩, fun c1 => ⟨fun c2 => ⟨kf, ?_⟩, fun c2 => ⟨kf, ?_⟩⟩⟩
  · simp (disch := omega) only [mj_lcm, jI_lt, jI_le, jI_eq, jL_lt, jL_le, jL_eq, jI_lt0, jI_0le, jI_0lt, jI_le0, jI_eq0, jL_eq0, jI_L, jI_add, jI_sub, jI_mul, jI_neg, jL_add, jL_sub, jL_mul, jL_neg, jL_I, jI_div, jI_mod, jL_div, jL_mod] at c1
    rw [if_pos c1]
    exact jRe (by rw [fa])
  · simp (disch := omega) only [mj_lcm, jI_lt, jI_le, jI_eq, jL_lt, jL_le, jL_eq, jI_lt0, jI_0le, jI_0lt, jI_le0, jI_eq0, jL_eq0, jI_L, jI_add, jI_sub, jI_mul, jI_neg, jL_add, jL_sub, jL_mul, jL_neg, jL_I, jI_div, jI_mod, jL_div, jL_mod] at c1 c2
    rw [if_neg c1, if_pos c2]
    exact jRe (by rw [fb])
  · simp (disch := omega) only [mj_lcm, jI_lt, jI_le, jI_eq, jL_lt, jL_le, jL_eq, jI_lt0, jI_0le, jI_0lt, jI_le0, jI_eq0, jL_eq0, jI_L, jI_add, jI_sub, jI_mul, jI_neg, jL_add, jL_sub, jL_mul, jL_neg, jL_I, jI_div, jI_mod, jL_div, jL_mod] at c1 c2
    rw [if_neg c1, if_neg c2]
    exact jRe (by rw [fc])
