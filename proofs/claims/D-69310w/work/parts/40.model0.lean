/-! the model: its smallest methods -/
/-- the model's cells of digits -/
def isMd (h : mj_H) : Prop := hK h 1412 = 27 ∧ hR h 1412 47 = some 1439 ∧ hK h 1439 = 1 ∧ hN h 1439 = 16500 ∧ hR h 1412 49 = some 1440 ∧ hK h 1440 = 1 ∧ hN h 1440 = 11000
theorem isMd.fr {h h' : mj_H} (a : isMd h) (e : h'.2 = h.2) : isMd h' := by
  obtain ⟨l, r⟩ := h
  obtain ⟨l', r'⟩ := h'
  have e' : r' = r := e
  subst e'
  exact a
/-- FormHouseModel.get(II)I; cuts at [] -/
def cd_216 : List mj_E := [(0, false, .aload_n 0, 1, 0, 0, 0, 0, 0),
  (1, false, .getfield 110, 3, 17, 47, 2, 0, 0),
  (4, false, .sipush 1100, 3, 0, 0, 0, jI 1100, 0),
  (7, false, .iload_n 1, 1, 0, 0, 0, 0, 0),
  (8, false, .imul, 1, 0, 0, 0, 0, 0),
  (9, false, .iload_n 2, 1, 0, 0, 0, 0, 0),
  (10, false, .iadd, 1, 0, 0, 0, 0, 0),
  (11, false, .iaload, 1, 0, 0, 0, 0, 0),
  (12, false, .ireturn, 1, 0, 0, 0, 0, 0)]
def cx_216 : mj_X := (1, [], [])
theorem tb_216 : mj_tab (mj_mt 216) cx_216 cd_216 mj_mh [(0, 0, 0), (7146, 0, 0), (0, 0, 0), (0, 0, 0), (0, 0, 0), (0, 0, 0), (0, 0, 0), (0, 0, 0), (0, 0, 0)] = true := mj_tab_f (by decide +kernel)
theorem ct_216 (G : mj_G) {h : mj_H} (hm : isMd h) {i k : Nat} (hi : i < 15) (hk : k < 1100) : mj_Ct G (mj_mt 216) 0 0 [.ref 1412, .int (jI i), .int (jI k)] h (jR (.int (hI h 1439 (1100 * i + k))) h) := by
  obtain ⟨m1, m2, m3, m4, -⟩ := hm
  refine mj_Ct_of mj_ok tb_216 rfl rfl (Nat.le_of_ble_eq_true rfl) (fun Run hR => ?_)
  refine hR 20 0 _ _ _ _ _ _ rfl ?_
  refine ⟨m1, _, m2, Or.inl m3, ?_, jRe ?_⟩
  · rw [m4, jI_mul, jI_add]
    exact jI_in (by omega) (by omega) (by omega)
  · rw [jI_mul, jI_add, jI_nat (by omega) (by omega)]
    congr 2
/-- FormHouseModel.put(III)V; cuts at [] -/
def cd_214 : List mj_E := [(0, false, .aload_n 0, 1, 0, 0, 0, 0, 0),
  (1, false, .getfield 110, 3, 17, 47, 2, 0, 0),
  (4, false, .sipush 1100, 3, 0, 0, 0, jI 1100, 0),
  (7, false, .iload_n 1, 1, 0, 0, 0, 0, 0),
  (8, false, .imul, 1, 0, 0, 0, 0, 0),
  (9, false, .iload_n 2, 1, 0, 0, 0, 0, 0),
  (10, false, .iadd, 1, 0, 0, 0, 0, 0),
  (11, false, .iload_n 3, 1, 0, 0, 0, 0, 0),
  (12, false, .iastore, 1, 0, 0, 0, 0, 0),
  (13, false, .return_, 1, 0, 0, 0, 0, 0)]
def cx_214 : mj_X := (0, [], [])
theorem tb_214 : mj_tab (mj_mt 214) cx_214 cd_214 mj_mh [(0, 0, 0), (7146, 0, 0), (0, 0, 0), (0, 0, 0), (0, 0, 0), (0, 0, 0), (0, 0, 0), (0, 0, 0), (0, 0, 0), (0, 0, 0)] = true := mj_tab_f (by decide +kernel)
theorem ct_214 (G : mj_G) {h : mj_H} (hm : isMd h) {i k : Nat} (hi : i < 15) (hk : k < 1100) (v : Int32) : mj_Ct G (mj_mt 214) 0 0 [.ref 1412, .int (jI i), .int (jI k), .int v] h (jV (sI h 1439 (1100 * i + k) v)) := by
  obtain ⟨m1, m2, m3, m4, -⟩ := hm
  refine mj_Ct_of mj_ok tb_214 rfl rfl (Nat.le_of_ble_eq_true rfl) (fun Run hR => ?_)
  refine hR 20 0 _ _ _ _ _ _ rfl ?_
  refine ⟨m1, _, m2, m3, ?_, ?_⟩
  · rw [m4, jI_mul, jI_add]
    exact jI_in (by omega) (by omega) (by omega)
  · rw [jI_mul, jI_add, jI_nat (by omega) (by omega), show ((1100 : Int) * i + k).toNat = 1100 * i + k by omega]
    exact ⟨rfl, rfl⟩
/-- FormHouseModel.digit(II)I; cuts at [] -/
def cd_237 : List mj_E := [(0, false, .aload_n 0, 1, 0, 0, 0, 0, 0),
  (1, false, .getfield 113, 3, 17, 49, 2, 0, 0),
  (4, false, .sipush 2200, 3, 0, 0, 0, jI 2200, 0),
  (7, false, .iload_n 1, 1, 0, 0, 0, 0, 0),
  (8, false, .imul, 1, 0, 0, 0, 0, 0),
  (9, false, .iload_n 2, 1, 0, 0, 0, 0, 0),
  (10, false, .iadd, 1, 0, 0, 0, 0, 0),
  (11, false, .iaload, 1, 0, 0, 0, 0, 0),
  (12, false, .ireturn, 1, 0, 0, 0, 0, 0)]
def cx_237 : mj_X := (1, [], [])
theorem tb_237 : mj_tab (mj_mt 237) cx_237 cd_237 mj_mh [(0, 0, 0), (7148, 0, 0), (0, 0, 0), (0, 0, 0), (0, 0, 0), (0, 0, 0), (0, 0, 0), (0, 0, 0), (0, 0, 0)] = true := mj_tab_f (by decide +kernel)
theorem ct_237 (G : mj_G) {h : mj_H} (hm : isMd h) {i k : Nat} (hi : i < 5) (hk : k < 2200) : mj_Ct G (mj_mt 237) 0 0 [.ref 1412, .int (jI i), .int (jI k)] h (jR (.int (hI h 1440 (2200 * i + k))) h) := by
  obtain ⟨m1, -, -, -, m2, m3, m4⟩ := hm
  refine mj_Ct_of mj_ok tb_237 rfl rfl (Nat.le_of_ble_eq_true rfl) (fun Run hR => ?_)
  refine hR 20 0 _ _ _ _ _ _ rfl ?_
  refine ⟨m1, _, m2, Or.inl m3, ?_, jRe ?_⟩
  · rw [m4, jI_mul, jI_add]
    exact jI_in (by omega) (by omega) (by omega)
  · rw [jI_mul, jI_add, jI_nat (by omega) (by omega)]
    congr 2
/-- FormHouseModel.setDigit(III)V; cuts at [] -/
def cd_234 : List mj_E := [(0, false, .aload_n 0, 1, 0, 0, 0, 0, 0),
  (1, false, .getfield 113, 3, 17, 49, 2, 0, 0),
  (4, false, .sipush 2200, 3, 0, 0, 0, jI 2200, 0),
  (7, false, .iload_n 1, 1, 0, 0, 0, 0, 0),
  (8, false, .imul, 1, 0, 0, 0, 0, 0),
  (9, false, .iload_n 2, 1, 0, 0, 0, 0, 0),
  (10, false, .iadd, 1, 0, 0, 0, 0, 0),
  (11, false, .iload_n 3, 1, 0, 0, 0, 0, 0),
  (12, false, .iastore, 1, 0, 0, 0, 0, 0),
  (13, false, .return_, 1, 0, 0, 0, 0, 0)]
def cx_234 : mj_X := (0, [], [])
theorem tb_234 : mj_tab (mj_mt 234) cx_234 cd_234 mj_mh [(0, 0, 0), (7148, 0, 0), (0, 0, 0), (0, 0, 0), (0, 0, 0), (0, 0, 0), (0, 0, 0), (0, 0, 0), (0, 0, 0), (0, 0, 0)] = true := mj_tab_f (by decide +kernel)
theorem ct_234 (G : mj_G) {h : mj_H} (hm : isMd h) {i k : Nat} (hi : i < 5) (hk : k < 2200) (v : Int32) : mj_Ct G (mj_mt 234) 0 0 [.ref 1412, .int (jI i), .int (jI k), .int v] h (jV (sI h 1440 (2200 * i + k) v)) := by
  obtain ⟨m1, -, -, -, m2, m3, m4⟩ := hm
  refine mj_Ct_of mj_ok tb_234 rfl rfl (Nat.le_of_ble_eq_true rfl) (fun Run hR => ?_)
  refine hR 20 0 _ _ _ _ _ _ rfl ?_
  refine ⟨m1, _, m2, m3, ?_, ?_⟩
  · rw [m4, jI_mul, jI_add]
    exact jI_in (by omega) (by omega) (by omega)
  · rw [jI_mul, jI_add, jI_nat (by omega) (by omega), show ((2200 : Int) * i + k).toNat = 2200 * i + k by omega]
    exact ⟨rfl, rfl⟩
/-- FormHouseModel.thrown()I; cuts at [] -/
def cd_223 : List mj_E := [(0, false, .aload_n 0, 1, 0, 0, 0, 0, 0),
  (1, false, .getfield 120, 3, 17, 0, 0, 0, 0),
  (4, false, .ireturn, 1, 0, 0, 0, 0, 0)]
def cx_223 : mj_X := (1, [], [])
theorem tb_223 : mj_tab (mj_mt 223) cx_223 cd_223 mj_mh [(0, 0, 0), (7099, 0, 0), (0, 0, 0)] = true := mj_tab_f (by decide +kernel)
theorem ct_223 (G : mj_G) {h : mj_H} (hm : hK h 1412 = 27) : mj_Ct G (mj_mt 223) 0 0 [.ref 1412] h (jR (.int (hI h 1412 0)) h) := by
  refine mj_Ct_of mj_ok tb_223 rfl rfl (Nat.le_of_ble_eq_true rfl) (fun Run hR => ?_)
  refine hR 20 0 _ _ _ _ _ _ rfl ?_
  exact ⟨hm, jRe rfl⟩
/-- FormHouseModel.raise(I)I; cuts at [] -/
def cd_257 : List mj_E := [(0, false, .aload_n 0, 1, 0, 0, 0, 0, 0),
  (1, false, .iload_n 1, 1, 0, 0, 0, 0, 0),
  (2, false, .putfield 120, 3, 17, 0, 0, 0, 0),
  (5, false, .iconst 0, 1, 0, 0, 0, jI 0, 0),
  (6, false, .ireturn, 1, 0, 0, 0, 0, 0)]
def cx_257 : mj_X := (1, [], [])
theorem tb_257 : mj_tab (mj_mt 257) cx_257 cd_257 mj_mh [(0, 0, 0), (0, 0, 0), (7099, 0, 0), (0, 0, 0), (0, 0, 0)] = true := mj_tab_f (by decide +kernel)
theorem ct_257 (G : mj_G) {h : mj_H} (hm : hK h 1412 = 27) (v : Int32) : mj_Ct G (mj_mt 257) 0 0 [.ref 1412, .int v] h (jW (.int (jI 0)) (sI h 1412 0 v)) := by
  refine mj_Ct_of mj_ok tb_257 rfl rfl (Nat.le_of_ble_eq_true rfl) (fun Run hR => ?_)
  refine hR 20 0 _ _ _ _ _ _ rfl ?_
  exact ⟨hm, jWe rfl⟩
