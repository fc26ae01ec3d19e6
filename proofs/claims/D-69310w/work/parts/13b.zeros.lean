/-! the zeros of new objects (printed by gen/dfl.py) -/
theorem md_0 : ∀ k, k < 23 → defaultValue (mt_0 k) = (if mj_tc (mF_0 k).2.2.1 = 1 then .long 0 else if mj_tc (mF_0 k).2.2.1 = 0 then .int 0 else .null) := by decide +kernel
theorem md_1 : ∀ k, k < 10 → defaultValue (mt_1 k) = (if mj_tc (mF_1 k).2.2.1 = 1 then .long 0 else if mj_tc (mF_1 k).2.2.1 = 0 then .int 0 else .null) := by decide +kernel
theorem md_2 : ∀ k, k < 4 → defaultValue (mt_2 k) = (if mj_tc (mF_2 k).2.2.1 = 1 then .long 0 else if mj_tc (mF_2 k).2.2.1 = 0 then .int 0 else .null) := by decide +kernel
theorem md_3 : ∀ k, k < 2 → defaultValue (mt_3 k) = (if mj_tc (mF_3 k).2.2.1 = 1 then .long 0 else if mj_tc (mF_3 k).2.2.1 = 0 then .int 0 else .null) := by decide +kernel
theorem md_4 : ∀ k, k < 6 → defaultValue (mt_4 k) = (if mj_tc (mF_4 k).2.2.1 = 1 then .long 0 else if mj_tc (mF_4 k).2.2.1 = 0 then .int 0 else .null) := by decide +kernel
theorem md_5 : ∀ k, k < 3 → defaultValue (mt_5 k) = (if mj_tc (mF_5 k).2.2.1 = 1 then .long 0 else if mj_tc (mF_5 k).2.2.1 = 0 then .int 0 else .null) := by decide +kernel
theorem md_6 : ∀ k, k < 3 → defaultValue (mt_6 k) = (if mj_tc (mF_6 k).2.2.1 = 1 then .long 0 else if mj_tc (mF_6 k).2.2.1 = 0 then .int 0 else .null) := by decide +kernel
theorem md_7 : ∀ k, k < 8 → defaultValue (mt_7 k) = (if mj_tc (mF_7 k).2.2.1 = 1 then .long 0 else if mj_tc (mF_7 k).2.2.1 = 0 then .int 0 else .null) := by decide +kernel
theorem md_8 : ∀ k, k < 14 → defaultValue (mt_8 k) = (if mj_tc (mF_8 k).2.2.1 = 1 then .long 0 else if mj_tc (mF_8 k).2.2.1 = 0 then .int 0 else .null) := by decide +kernel
theorem md_9 : ∀ k, k < 5 → defaultValue (mt_9 k) = (if mj_tc (mF_9 k).2.2.1 = 1 then .long 0 else if mj_tc (mF_9 k).2.2.1 = 0 then .int 0 else .null) := by decide +kernel
theorem md_10 : ∀ k, k < 3 → defaultValue (mt_10 k) = (if mj_tc (mF_10 k).2.2.1 = 1 then .long 0 else if mj_tc (mF_10 k).2.2.1 = 0 then .int 0 else .null) := by decide +kernel
theorem md_11 : ∀ k, k < 2 → defaultValue (mt_11 k) = (if mj_tc (mF_11 k).2.2.1 = 1 then .long 0 else if mj_tc (mF_11 k).2.2.1 = 0 then .int 0 else .null) := by decide +kernel
theorem md_12 : ∀ k, k < 12 → defaultValue (mt_12 k) = (if mj_tc (mF_12 k).2.2.1 = 1 then .long 0 else if mj_tc (mF_12 k).2.2.1 = 0 then .int 0 else .null) := by decide +kernel
theorem md_13 : ∀ k, k < 4 → defaultValue (mt_13 k) = (if mj_tc (mF_13 k).2.2.1 = 1 then .long 0 else if mj_tc (mF_13 k).2.2.1 = 0 then .int 0 else .null) := by decide +kernel
theorem md_14 : ∀ k, k < 5 → defaultValue (mt_14 k) = (if mj_tc (mF_14 k).2.2.1 = 1 then .long 0 else if mj_tc (mF_14 k).2.2.1 = 0 then .int 0 else .null) := by decide +kernel
theorem md_15 : ∀ k, k < 4 → defaultValue (mt_15 k) = (if mj_tc (mF_15 k).2.2.1 = 1 then .long 0 else if mj_tc (mF_15 k).2.2.1 = 0 then .int 0 else .null) := by decide +kernel
theorem md_16 : ∀ k, k < 2 → defaultValue (mt_16 k) = (if mj_tc (mF_16 k).2.2.1 = 1 then .long 0 else if mj_tc (mF_16 k).2.2.1 = 0 then .int 0 else .null) := by decide +kernel
theorem md_17 : ∀ k, k < 58 → defaultValue (mt_17 k) = (if mj_tc (mF_17 k).2.2.1 = 1 then .long 0 else if mj_tc (mF_17 k).2.2.1 = 0 then .int 0 else .null) := by decide +kernel
theorem md_18 : ∀ k, k < 6 → defaultValue (mt_18 k) = (if mj_tc (mF_18 k).2.2.1 = 1 then .long 0 else if mj_tc (mF_18 k).2.2.1 = 0 then .int 0 else .null) := by decide +kernel
theorem md_19 : ∀ k, k < 5 → defaultValue (mt_19 k) = (if mj_tc (mF_19 k).2.2.1 = 1 then .long 0 else if mj_tc (mF_19 k).2.2.1 = 0 then .int 0 else .null) := by decide +kernel
theorem md_20 : ∀ k, k < 6 → defaultValue (mt_20 k) = (if mj_tc (mF_20 k).2.2.1 = 1 then .long 0 else if mj_tc (mF_20 k).2.2.1 = 0 then .int 0 else .null) := by decide +kernel
theorem md_21 : ∀ k, k < 6 → defaultValue (mt_21 k) = (if mj_tc (mF_21 k).2.2.1 = 1 then .long 0 else if mj_tc (mF_21 k).2.2.1 = 0 then .int 0 else .null) := by decide +kernel
theorem mj_dfl {ci : Nat} {C : String} {T : u_T} {N : Nat} (h : mj_cl[ci]? = some (C, T, N)) : ∀ j, j < N → ∀ ty, parseFieldDescriptor (T j).2.2.1 = some ty → defaultValue ty = (if mj_tc (T j).2.2.1 = 1 then .long 0 else if mj_tc (T j).2.2.1 = 0 then .int 0 else .null) := by
  match ci, h with
  | 0, h => cases h; intro j hj ty ht; cases (mty_0 j hj).symm.trans ht; exact md_0 j hj
  | 1, h => cases h; intro j hj ty ht; cases (mty_1 j hj).symm.trans ht; exact md_1 j hj
  | 2, h => cases h; intro j hj ty ht; cases (mty_2 j hj).symm.trans ht; exact md_2 j hj
  | 3, h => cases h; intro j hj ty ht; cases (mty_3 j hj).symm.trans ht; exact md_3 j hj
  | 4, h => cases h; intro j hj ty ht; cases (mty_4 j hj).symm.trans ht; exact md_4 j hj
  | 5, h => cases h; intro j hj ty ht; cases (mty_5 j hj).symm.trans ht; exact md_5 j hj
  | 6, h => cases h; intro j hj ty ht; cases (mty_6 j hj).symm.trans ht; exact md_6 j hj
  | 7, h => cases h; intro j hj ty ht; cases (mty_7 j hj).symm.trans ht; exact md_7 j hj
  | 8, h => cases h; intro j hj ty ht; cases (mty_8 j hj).symm.trans ht; exact md_8 j hj
  | 9, h => cases h; intro j hj ty ht; cases (mty_9 j hj).symm.trans ht; exact md_9 j hj
  | 10, h => cases h; intro j hj ty ht; cases (mty_10 j hj).symm.trans ht; exact md_10 j hj
  | 11, h => cases h; intro j hj ty ht; cases (mty_11 j hj).symm.trans ht; exact md_11 j hj
  | 12, h => cases h; intro j hj ty ht; cases (mty_12 j hj).symm.trans ht; exact md_12 j hj
  | 13, h => cases h; intro j hj ty ht; cases (mty_13 j hj).symm.trans ht; exact md_13 j hj
  | 14, h => cases h; intro j hj ty ht; cases (mty_14 j hj).symm.trans ht; exact md_14 j hj
  | 15, h => cases h; intro j hj ty ht; cases (mty_15 j hj).symm.trans ht; exact md_15 j hj
  | 16, h => cases h; intro j hj ty ht; cases (mty_16 j hj).symm.trans ht; exact md_16 j hj
  | 17, h => cases h; intro j hj ty ht; cases (mty_17 j hj).symm.trans ht; exact md_17 j hj
  | 18, h => cases h; intro j hj ty ht; cases (mty_18 j hj).symm.trans ht; exact md_18 j hj
  | 19, h => cases h; intro j hj ty ht; cases (mty_19 j hj).symm.trans ht; exact md_19 j hj
  | 20, h => cases h; intro j hj ty ht; cases (mty_20 j hj).symm.trans ht; exact md_20 j hj
  | 21, h => cases h; intro j hj ty ht; cases (mty_21 j hj).symm.trans ht; exact md_21 j hj
  | k + 22, h => simp [mj_cl] at h
