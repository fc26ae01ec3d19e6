/-! THE CLAIM -/
theorem i_vc : Claimed_1_1 ∧ Claimed_1_2 := i_vc_ofAll kn_all
