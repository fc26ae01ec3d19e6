/-! facts of the classes (printed by gen/clsfacts.py) -/
def mj_inB (is : List Nat) (ws : List Cond) : Bool := (is.length == ws.length) && (is.zip ws).all (fun q => decide (mj_at q.1 = some q.2))
theorem mj_inB_ok {is : List Nat} {ws : List Cond} (h : mj_inB is ws = true) : ∀ w ∈ ws, w ∈ lw_tbl := by
  simp only [mj_inB, Bool.and_eq_true, beq_iff_eq, List.all_eq_true, decide_eq_true_eq] at h
  intro w hw
  obtain ⟨k, hk, he⟩ := List.mem_iff_getElem.mp hw
  have hk2 : k < is.length := by omega
  have hz : (is[k], ws[k]) ∈ is.zip ws := List.mem_iff_getElem.mpr ⟨k, by simp; omega, by simp⟩
  have := h.2 _ hz
  rw [he] at this
  exact mj_at_mem this
theorem mi_0 : ∀ w ∈ u_ws "FormHouse" mF_0 23, w ∈ lw_tbl := mj_inB_ok (is := [4226, 4228, 4230, 4232, 4234, 4236, 4238, 5000, 5002, 5004, 5006, 5008, 5010, 5012, 5014, 5016, 5018, 5020, 5022, 5024, 5026, 5028, 5030]) (by decide +kernel)
theorem mn_0 : ∀ a, a < 23 → ∀ b, b < 23 → a ≠ b → (mF_0 a).2.1 ≠ (mF_0 b).2.1 := by decide +kernel
theorem mty_0 : ∀ k, k < 23 → parseFieldDescriptor (mF_0 k).2.2.1 = some (mt_0 k) := by decide +kernel
theorem mi_1 : ∀ w ∈ u_ws "FormHouse$Units" mF_1 10, w ∈ lw_tbl := mj_inB_ok (is := [1202, 1204, 1206, 1208, 1210, 1212, 1214, 1216, 1218, 1220]) (by decide +kernel)
theorem mn_1 : ∀ a, a < 10 → ∀ b, b < 10 → a ≠ b → (mF_1 a).2.1 ≠ (mF_1 b).2.1 := by decide +kernel
theorem mty_1 : ∀ k, k < 10 → parseFieldDescriptor (mF_1 k).2.2.1 = some (mt_1 k) := by decide +kernel
theorem mi_2 : ∀ w ∈ u_ws "FormHouse$Reckoner" mF_2 4, w ∈ lw_tbl := mj_inB_ok (is := [1054, 1056, 1058, 1060]) (by decide +kernel)
theorem mn_2 : ∀ a, a < 4 → ∀ b, b < 4 → a ≠ b → (mF_2 a).2.1 ≠ (mF_2 b).2.1 := by decide +kernel
theorem mty_2 : ∀ k, k < 4 → parseFieldDescriptor (mF_2 k).2.2.1 = some (mt_2 k) := by decide +kernel
theorem mi_3 : ∀ w ∈ u_ws "FormHouse$Reducer" mF_3 2, w ∈ lw_tbl := mj_inB_ok (is := [1080, 1082]) (by decide +kernel)
theorem mn_3 : ∀ a, a < 2 → ∀ b, b < 2 → a ≠ b → (mF_3 a).2.1 ≠ (mF_3 b).2.1 := by decide +kernel
theorem mty_3 : ∀ k, k < 2 → parseFieldDescriptor (mF_3 k).2.2.1 = some (mt_3 k) := by decide +kernel
theorem mi_4 : ∀ w ∈ u_ws "FormHouse$Matrix" mF_4 6, w ∈ lw_tbl := mj_inB_ok (is := [1137, 1139, 1141, 1143, 1145, 1147]) (by decide +kernel)
theorem mn_4 : ∀ a, a < 6 → ∀ b, b < 6 → a ≠ b → (mF_4 a).2.1 ≠ (mF_4 b).2.1 := by decide +kernel
theorem mty_4 : ∀ k, k < 6 → parseFieldDescriptor (mF_4 k).2.2.1 = some (mt_4 k) := by decide +kernel
theorem mi_5 : ∀ w ∈ u_ws "FormHouse$Whole" mF_5 3, w ∈ lw_tbl := mj_inB_ok (is := [1113, 1115, 1117]) (by decide +kernel)
theorem mn_5 : ∀ a, a < 3 → ∀ b, b < 3 → a ≠ b → (mF_5 a).2.1 ≠ (mF_5 b).2.1 := by decide +kernel
theorem mty_5 : ∀ k, k < 3 → parseFieldDescriptor (mF_5 k).2.2.1 = some (mt_5 k) := by decide +kernel
theorem mi_6 : ∀ w ∈ u_ws "FormHouse$Form" mF_6 3, w ∈ lw_tbl := mj_inB_ok (is := [1179, 1181, 1183]) (by decide +kernel)
theorem mn_6 : ∀ a, a < 3 → ∀ b, b < 3 → a ≠ b → (mF_6 a).2.1 ≠ (mF_6 b).2.1 := by decide +kernel
theorem mty_6 : ∀ k, k < 3 → parseFieldDescriptor (mF_6 k).2.2.1 = some (mt_6 k) := by decide +kernel
theorem mi_7 : ∀ w ∈ u_ws "FormHouse$Table" mF_7 8, w ∈ lw_tbl := mj_inB_ok (is := [2004, 2006, 2008, 2010, 2012, 2014, 2016, 2018]) (by decide +kernel)
theorem mn_7 : ∀ a, a < 8 → ∀ b, b < 8 → a ≠ b → (mF_7 a).2.1 ≠ (mF_7 b).2.1 := by decide +kernel
theorem mty_7 : ∀ k, k < 8 → parseFieldDescriptor (mF_7 k).2.2.1 = some (mt_7 k) := by decide +kernel
theorem mi_8 : ∀ w ∈ u_ws "FormHouse$Group" mF_8 14, w ∈ lw_tbl := mj_inB_ok (is := [2093, 2095, 2097, 2099, 2101, 2103, 2105, 2107, 2109, 2111, 2113, 2115, 2117, 2119]) (by decide +kernel)
theorem mn_8 : ∀ a, a < 14 → ∀ b, b < 14 → a ≠ b → (mF_8 a).2.1 ≠ (mF_8 b).2.1 := by decide +kernel
theorem mty_8 : ∀ k, k < 14 → parseFieldDescriptor (mF_8 k).2.2.1 = some (mt_8 k) := by decide +kernel
theorem mi_9 : ∀ w ∈ u_ws "FormHouse$Composer" mF_9 5, w ∈ lw_tbl := mj_inB_ok (is := [2056, 2058, 2060, 2062, 2064]) (by decide +kernel)
theorem mn_9 : ∀ a, a < 5 → ∀ b, b < 5 → a ≠ b → (mF_9 a).2.1 ≠ (mF_9 b).2.1 := by decide +kernel
theorem mty_9 : ∀ k, k < 5 → parseFieldDescriptor (mF_9 k).2.2.1 = some (mt_9 k) := by decide +kernel
theorem mi_10 : ∀ w ∈ u_ws "FormHouse$Common" mF_10 3, w ∈ lw_tbl := mj_inB_ok (is := [2042, 2044, 2046]) (by decide +kernel)
theorem mn_10 : ∀ a, a < 3 → ∀ b, b < 3 → a ≠ b → (mF_10 a).2.1 ≠ (mF_10 b).2.1 := by decide +kernel
theorem mty_10 : ∀ k, k < 3 → parseFieldDescriptor (mF_10 k).2.2.1 = some (mt_10 k) := by decide +kernel
theorem mi_11 : ∀ w ∈ u_ws "FormHouse$Characters" mF_11 2, w ∈ lw_tbl := mj_inB_ok (is := [2133, 2135]) (by decide +kernel)
theorem mn_11 : ∀ a, a < 2 → ∀ b, b < 2 → a ≠ b → (mF_11 a).2.1 ≠ (mF_11 b).2.1 := by decide +kernel
theorem mty_11 : ∀ k, k < 2 → parseFieldDescriptor (mF_11 k).2.2.1 = some (mt_11 k) := by decide +kernel
theorem mi_12 : ∀ w ∈ u_ws "FormHouse$Trials" mF_12 12, w ∈ lw_tbl := mj_inB_ok (is := [2212, 2214, 2216, 2218, 2220, 2222, 2224, 2226, 2228, 2230, 2232, 2234]) (by decide +kernel)
theorem mn_12 : ∀ a, a < 12 → ∀ b, b < 12 → a ≠ b → (mF_12 a).2.1 ≠ (mF_12 b).2.1 := by decide +kernel
theorem mty_12 : ∀ k, k < 12 → parseFieldDescriptor (mF_12 k).2.2.1 = some (mt_12 k) := by decide +kernel
theorem mi_13 : ∀ w ∈ u_ws "FormHouse$Factors" mF_13 4, w ∈ lw_tbl := mj_inB_ok (is := [2157, 2159, 2161, 2163]) (by decide +kernel)
theorem mn_13 : ∀ a, a < 4 → ∀ b, b < 4 → a ≠ b → (mF_13 a).2.1 ≠ (mF_13 b).2.1 := by decide +kernel
theorem mty_13 : ∀ k, k < 4 → parseFieldDescriptor (mF_13 k).2.2.1 = some (mt_13 k) := by decide +kernel
theorem mi_14 : ∀ w ∈ u_ws "FormHouse$Roots" mF_14 5, w ∈ lw_tbl := mj_inB_ok (is := [2178, 2180, 2182, 2184, 2186]) (by decide +kernel)
theorem mn_14 : ∀ a, a < 5 → ∀ b, b < 5 → a ≠ b → (mF_14 a).2.1 ≠ (mF_14 b).2.1 := by decide +kernel
theorem mty_14 : ∀ k, k < 5 → parseFieldDescriptor (mF_14 k).2.2.1 = some (mt_14 k) := by decide +kernel
theorem mi_15 : ∀ w ∈ u_ws "FormHouse$Mover" mF_15 4, w ∈ lw_tbl := mj_inB_ok (is := [3029, 3031, 3033, 3035]) (by decide +kernel)
theorem mn_15 : ∀ a, a < 4 → ∀ b, b < 4 → a ≠ b → (mF_15 a).2.1 ≠ (mF_15 b).2.1 := by decide +kernel
theorem mty_15 : ∀ k, k < 4 → parseFieldDescriptor (mF_15 k).2.2.1 = some (mt_15 k) := by decide +kernel
theorem mi_16 : ∀ w ∈ u_ws "FormHouse$Pair" mF_16 2, w ∈ lw_tbl := mj_inB_ok (is := [3020, 3022]) (by decide +kernel)
theorem mn_16 : ∀ a, a < 2 → ∀ b, b < 2 → a ≠ b → (mF_16 a).2.1 ≠ (mF_16 b).2.1 := by decide +kernel
theorem mty_16 : ∀ k, k < 2 → parseFieldDescriptor (mF_16 k).2.2.1 = some (mt_16 k) := by decide +kernel
theorem mi_17 : ∀ w ∈ u_ws "FormHouseModel" mF_17 58, w ∈ lw_tbl := mj_inB_ok (is := [7157, 7159, 7161, 7163, 7165, 7167, 7169, 7171, 7173, 7175, 7177, 7179, 7181, 7183, 7185, 7187, 7189, 7191, 7193, 7195, 7197, 7199, 7201, 7203, 7205, 7207, 7209, 7211, 7213, 7215, 7217, 7219, 7221, 7223, 7225, 7227, 7229, 7231, 7233, 7235, 7237, 7239, 8001, 8003, 8005, 8007, 8009, 8011, 8013, 8015, 8017, 8019, 8021, 8023, 8025, 8027, 8029, 8031]) (by decide +kernel)
theorem mn_17 : ∀ a, a < 58 → ∀ b, b < 58 → a ≠ b → (mF_17 a).2.1 ≠ (mF_17 b).2.1 := by decide +kernel
theorem mty_17 : ∀ k, k < 58 → parseFieldDescriptor (mF_17 k).2.2.1 = some (mt_17 k) := by decide +kernel
theorem mi_18 : ∀ w ∈ u_ws "java/lang/IllegalStateException" mF_18 6, w ∈ lw_tbl := mj_inB_ok (is := [3130, 3132, 3134, 3136, 3138, 3178]) (by decide +kernel)
theorem mn_18 : ∀ a, a < 6 → ∀ b, b < 6 → a ≠ b → (mF_18 a).2.1 ≠ (mF_18 b).2.1 := by decide +kernel
theorem mty_18 : ∀ k, k < 6 → parseFieldDescriptor (mF_18 k).2.2.1 = some (mt_18 k) := by decide +kernel
theorem mi_19 : ∀ w ∈ u_ws "java/lang/Throwable" mF_19 5, w ∈ lw_tbl := mj_inB_ok (is := [3131, 3133, 3135, 3137, 3139]) (by decide +kernel)
theorem mn_19 : ∀ a, a < 5 → ∀ b, b < 5 → a ≠ b → (mF_19 a).2.1 ≠ (mF_19 b).2.1 := by decide +kernel
theorem mty_19 : ∀ k, k < 5 → parseFieldDescriptor (mF_19 k).2.2.1 = some (mt_19 k) := by decide +kernel
theorem mi_20 : ∀ w ∈ u_ws "java/lang/IllegalArgumentException" mF_20 6, w ∈ lw_tbl := mj_inB_ok (is := [5058, 5059, 5060, 5061, 5062, 5067]) (by decide +kernel)
theorem mn_20 : ∀ a, a < 6 → ∀ b, b < 6 → a ≠ b → (mF_20 a).2.1 ≠ (mF_20 b).2.1 := by decide +kernel
theorem mty_20 : ∀ k, k < 6 → parseFieldDescriptor (mF_20 k).2.2.1 = some (mt_20 k) := by decide +kernel
theorem mi_21 : ∀ w ∈ u_ws "java/lang/IndexOutOfBoundsException" mF_21 6, w ∈ lw_tbl := mj_inB_ok (is := [5084, 5085, 5086, 5087, 5088, 5093]) (by decide +kernel)
theorem mn_21 : ∀ a, a < 6 → ∀ b, b < 6 → a ≠ b → (mF_21 a).2.1 ≠ (mF_21 b).2.1 := by decide +kernel
theorem mty_21 : ∀ k, k < 6 → parseFieldDescriptor (mF_21 k).2.2.1 = some (mt_21 k) := by decide +kernel
theorem mj_cls {ci : Nat} {C : String} {T : u_T} {N : Nat} (h : mj_cl[ci]? = some (C, T, N)) : (∀ w ∈ u_ws C T N, w ∈ lw_tbl) ∧ (∀ a, a < N → ∀ b, b < N → a ≠ b → (T a).2.1 ≠ (T b).2.1) ∧ ∃ t : Nat → FieldType, ∀ k, k < N → parseFieldDescriptor (T k).2.2.1 = some (t k) := by
  match ci, h with
  | 0, h => cases h; exact ⟨mi_0, mn_0, mt_0, mty_0⟩
  | 1, h => cases h; exact ⟨mi_1, mn_1, mt_1, mty_1⟩
  | 2, h => cases h; exact ⟨mi_2, mn_2, mt_2, mty_2⟩
  | 3, h => cases h; exact ⟨mi_3, mn_3, mt_3, mty_3⟩
  | 4, h => cases h; exact ⟨mi_4, mn_4, mt_4, mty_4⟩
  | 5, h => cases h; exact ⟨mi_5, mn_5, mt_5, mty_5⟩
  | 6, h => cases h; exact ⟨mi_6, mn_6, mt_6, mty_6⟩
  | 7, h => cases h; exact ⟨mi_7, mn_7, mt_7, mty_7⟩
  | 8, h => cases h; exact ⟨mi_8, mn_8, mt_8, mty_8⟩
  | 9, h => cases h; exact ⟨mi_9, mn_9, mt_9, mty_9⟩
  | 10, h => cases h; exact ⟨mi_10, mn_10, mt_10, mty_10⟩
  | 11, h => cases h; exact ⟨mi_11, mn_11, mt_11, mty_11⟩
  | 12, h => cases h; exact ⟨mi_12, mn_12, mt_12, mty_12⟩
  | 13, h => cases h; exact ⟨mi_13, mn_13, mt_13, mty_13⟩
  | 14, h => cases h; exact ⟨mi_14, mn_14, mt_14, mty_14⟩
  | 15, h => cases h; exact ⟨mi_15, mn_15, mt_15, mty_15⟩
  | 16, h => cases h; exact ⟨mi_16, mn_16, mt_16, mty_16⟩
  | 17, h => cases h; exact ⟨mi_17, mn_17, mt_17, mty_17⟩
  | 18, h => cases h; exact ⟨mi_18, mn_18, mt_18, mty_18⟩
  | 19, h => cases h; exact ⟨mi_19, mn_19, mt_19, mty_19⟩
  | 20, h => cases h; exact ⟨mi_20, mn_20, mt_20, mty_20⟩
  | 21, h => cases h; exact ⟨mi_21, mn_21, mt_21, mty_21⟩
  | k + 22, h => simp [mj_cl] at h
