/-! the model: bits, words and rests of numbers -/
theorem isTn.z {h h' : mj_H} {i : Nat} {v : Int} (a : isTn h i v) (F : FrT h h') (hn : i < 12 → isN h' 14 v.natAbs) : isTz h' i v := ⟨hn, fun z k hk => (F.1.I (by decide) (by decide) _).trans ((a.2 z).2 k hk)⟩
theorem bit_of {w : Int} {r : Nat} (hr : r < 32) : (jI w >>> (jI r &&& 31)) &&& jI 1 = jI (w / 2 ^ r % 2) := by
  obtain ⟨u, u1, u2, c, hc⟩ : ∃ u : Int, -2147483648 ≤ u ∧ u < 2147483648 ∧ ∃ c : Int, w = u + 4294967296 * c := by
    refine ⟨(w + 2147483648) % 4294967296 - 2147483648, ?_, ?_, (w + 2147483648) / 4294967296, ?_⟩ <;> omega
  have e : jI w = jI u := jI_congr (by omega)
  have hp : (0 : Int) < 2 ^ r := Int.pow_pos (by decide)
  have e2 : (4294967296 : Int) = 2 ^ r * (2 * 2 ^ (31 - r)) := by
    rw [← Int.pow_succ', ← Int.pow_add, show r + (31 - r + 1) = 32 by omega]
    rfl
  rw [e, jI_shr (K := (r : Int)) r hr rfl u1 u2, show (1 : Int) = 2 ^ 1 - 1 from rfl, jI_mask (k := 1) (by decide) rfl]
  congr 1
  rw [hc, e2, Int.mul_assoc, Int.add_mul_ediv_left _ _ (by omega)]
  generalize 2 ^ (31 - r) = t
  rw [Int.mul_assoc, show (2 : Int) ^ 1 = 2 from rfl, Int.add_mul_emod_self_left]
theorem pB_two (k : Nat) : pB (2 * k) = 2 ^ (32 * k) := by
  unfold pB
  rw [show (65536 : Int) = 2 ^ 16 from rfl, ← Int.pow_mul, show 16 * (2 * k) = 32 * k by omega]
/-- FormHouseModel.bits(I)I; cuts at [10, 21, 25, 29, 54] -/
def cl_282_1 : List mj_E := (41, false, .irem, 1, 0, 0, 0, 0, 0) ::
  (42, false, .ishr, 1, 0, 0, 0, 0, 0) ::
  (43, false, .iconst 1, 1, 0, 0, 0, jI 1, 0) ::
  (44, false, .iand, 1, 0, 0, 0, 0, 0) ::
  (45, false, .ifCond .ne 9, 3, 31, 0, 0, 0, 0) ::
  (48, false, .iinc 2 (-1), 3, 0, 0, 0, jI (-1), 0) ::
  (51, false, .goto (-26), 3, 14, 0, 0, 0, 0) ::
  (54, true, .iload_n 2, 1, 0, 0, 0, 0, 0) ::
  (55, false, .iconst 1, 1, 0, 0, 0, jI 1, 0) ::
  (56, false, .iadd, 1, 0, 0, 0, 0, 0) ::
  (57, false, .ireturn, 1, 0, 0, 0, 0, 0) ::
  []
def cl_282_0 : List mj_E := (0, false, .aload_n 0, 1, 0, 0, 0, 0, 0) ::
  (1, false, .iload_n 1, 1, 0, 0, 0, 0, 0) ::
  (2, false, .invokevirtual 457, 3, 280, 1, 17, 0, 0) ::
  (5, false, .ifCond .ne 5, 3, 6, 0, 0, 0, 0) ::
  (8, false, .iconst 0, 1, 0, 0, 0, jI 0, 0) ::
  (9, false, .ireturn, 1, 0, 0, 0, 0, 0) ::
  (10, true, .iload_n 1, 1, 0, 0, 0, 0, 0) ::
  (11, false, .bipush 12, 2, 0, 0, 0, jI 12, 0) ::
  (13, false, .if_icmp .ge 8, 3, 12, 0, 0, 0, 0) ::
  (16, false, .aload_n 0, 1, 0, 0, 0, 0, 0) ::
  (17, false, .iload_n 1, 1, 0, 0, 0, 0, 0) ::
  (18, false, .invokevirtual 463, 3, 283, 1, 17, 0, 0) ::
  (21, true, .sipush 16383, 3, 0, 0, 0, jI 16383, 0) ::
  (24, false, .istore_n 2, 1, 0, 0, 0, 0, 0) ::
  (25, true, .iload_n 2, 1, 0, 0, 0, 0, 0) ::
  (26, false, .ifCond .lt 28, 3, 31, 0, 0, 0, 0) ::
  (29, true, .aload_n 0, 1, 0, 0, 0, 0, 0) ::
  (30, false, .iload_n 1, 1, 0, 0, 0, 0, 0) ::
  (31, false, .iload_n 2, 1, 0, 0, 0, 0, 0) ::
  (32, false, .bipush 32, 2, 0, 0, 0, jI 32, 0) ::
  (34, false, .idiv, 1, 0, 0, 0, 0, 0) ::
  (35, false, .invokevirtual 466, 3, 284, 2, 17, 0, 0) ::
  (38, false, .iload_n 2, 1, 0, 0, 0, 0, 0) ::
  (39, false, .bipush 32, 2, 0, 0, 0, jI 32, 0) ::
  cl_282_1
def cd_282 : List mj_E := cl_282_0
def cx_282 : mj_X := (1, [], [])
theorem tb_282 : mj_tab (mj_mt 282) cx_282 cd_282 mj_mh [(0, 0, 0), (0, 0, 0), (9032, 0, 0), (0, 0, 0), (0, 0, 0), (0, 0, 0), (0, 0, 0), (0, 0, 0), (0, 0, 0), (0, 0, 0), (0, 0, 0), (9044, 0, 0), (0, 0, 0), (0, 0, 0), (0, 0, 0), (0, 0, 0), (0, 0, 0), (0, 0, 0), (0, 0, 0), (0, 0, 0), (0, 0, 0), (9048, 0, 0), (0, 0, 0), (0, 0, 0), (0, 0, 0), (0, 0, 0), (0, 0, 0), (0, 0, 0), (0, 0, 0), (0, 0, 0), (0, 0, 0), (0, 0, 0), (0, 0, 0), (0, 0, 0), (0, 0, 0)] = true := mj_tab_f (by decide +kernel)
theorem ct_282 (G : mj_G) {h : mj_H} (L : isLam h) {f : Nat} (hf : hI h 1412 35 = jI f) (hf2 : f ≤ 256) {i : Int} (hi : -2147483648 ≤ i ∧ i < 2147483648) {V : Nat → Int} (hV : ∀ j, j < 12 + 2 * f → isTn h j (V j)) (hb : ∀ j, j < 12 + 2 * f → ((V j).natAbs : Int) < pB 1024) : mj_Ct G (mj_mt 282) 0 0 [.ref 1412, .int (jI i)] h (fun o h' => (0 ≤ i ∧ i < 12 + 2 * f → (∃ s : Nat, o = .returned (some (.int (jI s))) ∧ ((V i.toNat = 0 ∧ s = 0) ∨ (0 < s ∧ 2 ^ (s - 1) ≤ ((V i.toNat).natAbs : Int) ∧ ((V i.toNat).natAbs : Int) < 2 ^ s))) ∧ hI h' 1412 0 = jI 0 ∧ FrT h h') ∧ (¬ (0 ≤ i ∧ i < 12 + 2 * f) → jA 0 1 h o h')) := by
  refine mj_Ct_of mj_ok tb_282 rfl rfl (Nat.le_of_ble_eq_true rfl) (fun Run hR => ?_)
  have good : 0 ≤ i ∧ i < 12 + 2 * f → ∀ (h' : mj_H), FrT h h' → hI h' 1412 0 = jI 0 → isTz h' i.toNat (V i.toNat) → ∀ x2 : Option Value, Run 21 [some (.ref 1412), some (.int (jI i)), x2] [] h' (0, 0) := by
    intro z h' F hc hz x2
    have L' := F.1.lay L
    have hbi := hb i.toNat (by omega)
    obtain ⟨v, hv⟩ : ∃ v, v = V i.toNat := ⟨_, rfl⟩
    rw [← hv] at hz hbi
    have ei : ((i.toNat : Nat) : Int) = i := by omega
    have r54 : ∀ (s : Nat), ((v = 0 ∧ s = 0) ∨ (0 < s ∧ 2 ^ (s - 1) ≤ (v.natAbs : Int) ∧ (v.natAbs : Int) < 2 ^ s)) → Run 54 [some (.ref 1412), some (.int (jI i)), some (.int (jI ((s : Int) - 1)))] [] h' (0, 0) := by
      intro s hs
      refine hR 60 31 _ _ _ _ _ _ rfl ?_
      refine ⟨fun _ => ?_, fun q => absurd z q⟩
      rw [← hv]
      refine ⟨⟨s, ?_, hs⟩, hc, F⟩
      rw [jI_add, show (s : Int) - 1 + 1 = s by omega]
    have loop : ∀ (m : Nat) (nI : Int32), m ≤ 16384 → (v.natAbs : Int) < 2 ^ m → nI = jI ((m : Int) - 1) → Run 25 [some (.ref 1412), some (.int (jI i)), some (.int nI)] [] h' (0, 0) := by
      intro m
      induction m with
      | zero =>
        rintro nI hm hlt rfl
        have hv0 : v = 0 := by
          have : (2 : Int) ^ 0 = 1 := rfl
          omega
        refine hR 60 14 _ _ _ _ _ _ rfl ?_
        refine ⟨fun c => r54 0 (Or.inl ⟨hv0, rfl⟩), fun c => ?_⟩
        simp (disch := omega) only [mj_lcm, jI_lt, jI_le, jI_eq, jL_lt, jL_le, jL_eq, jI_lt0, jI_0le, jI_0lt, jI_le0, jI_eq0, jL_eq0, jI_L, jI_add, jI_sub, jI_mul, jI_neg, jL_add, jL_sub, jL_mul, jL_neg, jL_I, jI_div, jI_mod, jL_div, jL_mod] at c
        omega
      | succ m ih =>
        rintro nI hm hlt rfl
        have ek : jI (((m + 1 : Nat) : Int) - 1) = jI (m : Int) := by
          congr 1
          omega
        have hp : (0 : Int) < 2 ^ m := Int.pow_pos (by decide)
        have hp1 : (2 : Int) ^ (m + 1) = 2 ^ m * 2 := Int.pow_succ 2 m
        have e1 : jI (m : Int) / jI 32 = jI ((m / 32 : Nat) : Int) := by
          rw [jI_div (by omega) (by omega) (by omega) (by omega), Int.tdiv_eq_ediv_of_nonneg (by omega)]
          rfl
        have e2 : jI (m : Int) % jI 32 = jI ((m % 32 : Nat) : Int) := by
          rw [jI_mod (by omega) (by omega) (by omega) (by omega), Int.tmod_eq_emod_of_nonneg (by omega)]
          rfl
        have c284 := ct_284 G L' (i := i.toNat) (k := m / 32) (by omega) (by omega) hz
        rw [ei, ← e1] at c284
        have ebit : (v.natAbs : Int) / pB (2 * (m / 32)) / 2 ^ (m % 32) = (v.natAbs : Int) / 2 ^ m := by
          rw [pB_two, Int.ediv_ediv_of_nonneg (Int.le_of_lt (Int.pow_pos (by decide))), ← Int.pow_add, show 32 * (m / 32) + m % 32 = m by omega]
        have one : (2 : Int) ^ m ≤ (v.natAbs : Int) → (v.natAbs : Int) / 2 ^ m = 1 := by
          intro q
          have a1 : 1 ≤ (v.natAbs : Int) / 2 ^ m := Int.le_ediv_of_mul_le hp (by omega)
          have a2 : (v.natAbs : Int) / 2 ^ m < 2 := Int.ediv_lt_of_lt_mul hp (by omega)
          omega
        have r29 : Run 29 [some (.ref 1412), some (.int (jI i)), some (.int (jI m))] [] h' (0, 0) := by
          refine hR 60 16 _ _ _ _ _ _ rfl ?_
          refine ⟨by decide, L'.K 1412 rfl, jcall c284 ?_⟩
          refine ⟨by decide, fun c => ?_, fun c => ?_⟩
          · rw [e2, bit_of (r := m % 32) (by omega), ebit] at c
            have hbit : (v.natAbs : Int) < 2 ^ m := by
              rcases Int.lt_or_le (v.natAbs : Int) (2 ^ m) with q | q
              · exact q
              · rw [one q] at c
                exact absurd c (by decide)
            refine ih _ (by omega) hbit ?_
            rw [jI_add]
            rfl
          · rw [e2, bit_of (r := m % 32) (by omega), ebit] at c
            have hbit : (2 : Int) ^ m ≤ (v.natAbs : Int) := by
              rcases Int.lt_or_le (v.natAbs : Int) (2 ^ m) with q | q
              · rw [Int.ediv_eq_zero_of_lt (by omega) q] at c
                exact absurd rfl c
              · exact q
            have r := r54 (m + 1) (Or.inr ⟨by omega, by rw [show m + 1 - 1 = m by omega]; exact hbit, hlt⟩)
            rw [ek] at r
            exact r
        rw [ek]
        refine hR 60 14 _ _ _ _ _ _ rfl ?_
        refine ⟨fun c => ?_, fun c => r29⟩
        simp (disch := omega) only [mj_lcm, jI_lt, jI_le, jI_eq, jL_lt, jL_le, jL_eq, jI_lt0, jI_0le, jI_0lt, jI_le0, jI_eq0, jL_eq0, jI_L, jI_add, jI_sub, jI_mul, jI_neg, jL_add, jL_sub, jL_mul, jL_neg, jL_I, jI_div, jI_mod, jL_div, jL_mod] at c
        omega
    refine hR 60 12 _ _ _ _ _ _ rfl ?_
    exact loop (32 * 512) _ (by decide) (by rw [← pB_two]; exact hbi) rfl
  have r10 : 0 ≤ i ∧ i < 12 + 2 * f → ∀ (x2 : Option Value), Run 10 [some (.ref 1412), some (.int (jI i)), x2] [] (sI h 1412 0 (jI 0)) (0, 0) := by
    intro z x2
    have F := FrT.code h (jI 0)
    have L' := F.1.lay L
    have tn := F.tn (hV i.toNat (by omega))
    refine hR 60 6 _ _ _ _ _ _ rfl ?_
    refine ⟨fun c => ?_, fun c => ?_⟩
    · simp (disch := omega) only [mj_lcm, jI_lt, jI_le, jI_eq, jL_lt, jL_le, jL_eq, jI_lt0, jI_0le, jI_0lt, jI_le0, jI_eq0, jL_eq0, jI_L, jI_add, jI_sub, jI_mul, jI_neg, jL_add, jL_sub, jL_mul, jL_neg, jL_I, jI_div, jI_mod, jL_div, jL_mod] at c
      exact good z _ F (sI_at _ _ _ _) ((hV i.toNat (by omega)).z F (fun q => by omega)) _
    · simp (disch := omega) only [mj_lcm, jI_lt, jI_le, jI_eq, jL_lt, jL_le, jL_eq, jI_lt0, jI_0le, jI_0lt, jI_le0, jI_eq0, jL_eq0, jI_L, jI_add, jI_sub, jI_mul, jI_neg, jL_add, jL_sub, jL_mul, jL_neg, jL_I, jI_div, jI_mod, jL_div, jL_mod] at c
      obtain ⟨n1, n2⟩ := tn.1 (by omega)
      have c283 := ct_283 G L'.Md (i := i.toNat) (by omega) n1 n2
      rw [show ((i.toNat : Nat) : Int) = i by omega] at c283
      refine ⟨L'.K 1412 rfl, jcallP c283 ?_⟩
      rintro o h3 ⟨rfl, n3, F3⟩
      exact good z h3 (F.trans F3.T) ((congrFun (F3.1.2 1412 (by simp)) 0).trans (sI_at _ _ _ _)) ((hV i.toNat (by omega)).z (F.trans F3.T) (fun _ => n3)) _
  refine hR 60 0 _ _ _ _ _ _ rfl ?_
  refine ⟨L.K 1412 rfl, jcallW (ct_280 G L hf hf2 hi) ?_⟩
  by_cases z : 0 ≤ i ∧ i < 12 + 2 * f
  · rw [if_pos z, if_pos z]
    exact ⟨fun c => absurd c (by decide), fun c => r10 z _⟩
  · rw [if_neg z, if_neg z]
    refine ⟨fun c => ?_, fun c => absurd rfl c⟩
    exact ⟨fun q => absurd q z, fun _ => ⟨rfl, sI_at _ _ _ _, FrT.code h (jI 1)⟩⟩
/-- FormHouseModel.word(II)I; cuts at [10, 28, 39] -/
def cd_285 : List mj_E := [(0, false, .aload_n 0, 1, 0, 0, 0, 0, 0),
  (1, false, .iload_n 1, 1, 0, 0, 0, 0, 0),
  (2, false, .invokevirtual 457, 3, 280, 1, 17, 0, 0),
  (5, false, .ifCond .ne 5, 3, 6, 0, 0, 0, 0),
  (8, false, .iconst 0, 1, 0, 0, 0, jI 0, 0),
  (9, false, .ireturn, 1, 0, 0, 0, 0, 0),
  (10, true, .iload_n 2, 1, 0, 0, 0, 0, 0),
  (11, false, .i2l, 1, 0, 0, 0, 0, 0),
  (12, false, .lconst 0, 1, 0, 0, 0, 0, jL 0),
  (13, false, .ldc2_w 469, 3, 0, 0, 0, 0, jL 511),
  (16, false, .invokestatic 244, 3, 225, 3, 0, 0, 0),
  (19, false, .ifCond .ne 9, 3, 16, 0, 0, 0, 0),
  (22, false, .aload_n 0, 1, 0, 0, 0, 0, 0),
  (23, false, .iconst 1, 1, 0, 0, 0, jI 1, 0),
  (24, false, .invokevirtual 429, 3, 257, 1, 17, 0, 0),
  (27, false, .ireturn, 1, 0, 0, 0, 0, 0),
  (28, true, .iload_n 1, 1, 0, 0, 0, 0, 0),
  (29, false, .bipush 12, 2, 0, 0, 0, jI 12, 0),
  (31, false, .if_icmp .ge 8, 3, 22, 0, 0, 0, 0),
  (34, false, .aload_n 0, 1, 0, 0, 0, 0, 0),
  (35, false, .iload_n 1, 1, 0, 0, 0, 0, 0),
  (36, false, .invokevirtual 463, 3, 283, 1, 17, 0, 0),
  (39, true, .aload_n 0, 1, 0, 0, 0, 0, 0),
  (40, false, .iload_n 1, 1, 0, 0, 0, 0, 0),
  (41, false, .iload_n 2, 1, 0, 0, 0, 0, 0),
  (42, false, .invokevirtual 466, 3, 284, 2, 17, 0, 0),
  (45, false, .ireturn, 1, 0, 0, 0, 0, 0)]
def cx_285 : mj_X := (1, [], [])
theorem tb_285 : mj_tab (mj_mt 285) cx_285 cd_285 mj_mh [(0, 0, 0), (0, 0, 0), (9032, 0, 0), (0, 0, 0), (0, 0, 0), (0, 0, 0), (0, 0, 0), (0, 0, 0), (0, 0, 0), (9056, 0, 0), (8044, 0, 0), (0, 0, 0), (0, 0, 0), (0, 0, 0), (8177, 0, 0), (0, 0, 0), (0, 0, 0), (0, 0, 0), (0, 0, 0), (0, 0, 0), (0, 0, 0), (9044, 0, 0), (0, 0, 0), (0, 0, 0), (0, 0, 0), (9048, 0, 0), (0, 0, 0)] = true := mj_tab_f (by decide +kernel)
theorem ct_285 (G : mj_G) {h : mj_H} (L : isLam h) {f : Nat} (hf : hI h 1412 35 = jI f) (hf2 : f ≤ 256) {i k : Int} (hi : -2147483648 ≤ i ∧ i < 2147483648) (hk : -2147483648 ≤ k ∧ k < 2147483648) {V : Nat → Int} (hV : ∀ j, j < 12 + 2 * f → isTn h j (V j)) : mj_Ct G (mj_mt 285) 0 0 [.ref 1412, .int (jI i), .int (jI k)] h (fun o h' => (0 ≤ i ∧ i < 12 + 2 * f → (0 ≤ k ∧ k < 512 → jA (((V i.toNat).natAbs : Int) / pB (2 * k.toNat)) 0 h o h') ∧ (¬ (0 ≤ k ∧ k < 512) → jA 0 1 h o h')) ∧ (¬ (0 ≤ i ∧ i < 12 + 2 * f) → jA 0 1 h o h')) := by
  refine mj_Ct_of mj_ok tb_285 rfl rfl (Nat.le_of_ble_eq_true rfl) (fun Run hR => ?_)
  have good : 0 ≤ i ∧ i < 12 + 2 * f → 0 ≤ k ∧ k < 512 → ∀ (h' : mj_H), FrT h h' → hI h' 1412 0 = jI 0 → isTz h' i.toNat (V i.toNat) → Run 39 [some (.ref 1412), some (.int (jI i)), some (.int (jI k))] [] h' (0, 0) := by
    intro z zk h' F hc hz
    have L' := F.1.lay L
    have c284 := ct_284 G L' (i := i.toNat) (k := k.toNat) (by omega) (by omega) hz
    rw [show ((i.toNat : Nat) : Int) = i by omega, show ((k.toNat : Nat) : Int) = k by omega] at c284
    refine hR 60 22 _ _ _ _ _ _ rfl ?_
    refine ⟨L'.K 1412 rfl, jcall c284 ?_⟩
    exact ⟨fun _ => ⟨fun _ => ⟨rfl, hc, F⟩, fun q => absurd zk q⟩, fun q => absurd z q⟩
  have F := FrT.code h (jI 0)
  have L' := F.1.lay L
  have r28 : 0 ≤ i ∧ i < 12 + 2 * f → 0 ≤ k ∧ k < 512 → Run 28 [some (.ref 1412), some (.int (jI i)), some (.int (jI k))] [] (sI h 1412 0 (jI 0)) (0, 0) := by
    intro z zk
    have tn := F.tn (hV i.toNat (by omega))
    refine hR 60 16 _ _ _ _ _ _ rfl ?_
    refine ⟨fun c => ?_, fun c => ?_⟩
    · simp (disch := omega) only [mj_lcm, jI_lt, jI_le, jI_eq, jL_lt, jL_le, jL_eq, jI_lt0, jI_0le, jI_0lt, jI_le0, jI_eq0, jL_eq0, jI_L, jI_add, jI_sub, jI_mul, jI_neg, jL_add, jL_sub, jL_mul, jL_neg, jL_I, jI_div, jI_mod, jL_div, jL_mod] at c
      exact good z zk _ F (sI_at _ _ _ _) ((hV i.toNat (by omega)).z F (fun q => by omega))
    · simp (disch := omega) only [mj_lcm, jI_lt, jI_le, jI_eq, jL_lt, jL_le, jL_eq, jI_lt0, jI_0le, jI_0lt, jI_le0, jI_eq0, jL_eq0, jI_L, jI_add, jI_sub, jI_mul, jI_neg, jL_add, jL_sub, jL_mul, jL_neg, jL_I, jI_div, jI_mod, jL_div, jL_mod] at c
      obtain ⟨n1, n2⟩ := tn.1 (by omega)
      have c283 := ct_283 G L'.Md (i := i.toNat) (by omega) n1 n2
      rw [show ((i.toNat : Nat) : Int) = i by omega] at c283
      refine ⟨L'.K 1412 rfl, jcallP c283 ?_⟩
      rintro o h3 ⟨rfl, n3, F3⟩
      exact good z zk h3 (F.trans F3.T) ((congrFun (F3.1.2 1412 (by simp)) 0).trans (sI_at _ _ _ _)) ((hV i.toNat (by omega)).z (F.trans F3.T) (fun _ => n3))
  have r10 : 0 ≤ i ∧ i < 12 + 2 * f → Run 10 [some (.ref 1412), some (.int (jI i)), some (.int (jI k))] [] (sI h 1412 0 (jI 0)) (0, 0) := by
    intro z
    have e2 : (jI k).toInt64 = jL k := jI_L (by omega) (by omega)
    have c225 := ct_225 G (v := k) (a := 0) (b := 511) (by omega) (by omega) (by omega) (by omega) (by omega) (by omega) (sI h 1412 0 (jI 0))
    rw [← e2] at c225
    refine hR 60 6 _ _ _ _ _ _ rfl ?_
    refine jcall c225 ?_
    by_cases zk : 0 ≤ k ∧ k < 512
    · rw [if_pos (show 0 ≤ k ∧ k ≤ 511 by omega)]
      exact ⟨fun c => absurd c (by decide), fun c => r28 z zk⟩
    · rw [if_neg (show ¬ (0 ≤ k ∧ k ≤ 511) by omega)]
      refine ⟨fun c => ⟨L'.K 1412 rfl, jcallW (ct_257 G (L'.K 1412 rfl) _) ?_⟩, fun c => absurd rfl c⟩
      exact ⟨fun _ => ⟨fun q => absurd q zk, fun _ => ⟨rfl, sI_at _ _ _ _, F.trans (FrT.code _ _)⟩⟩, fun q => absurd z q⟩
  refine hR 60 0 _ _ _ _ _ _ rfl ?_
  refine ⟨L.K 1412 rfl, jcallW (ct_280 G L hf hf2 hi) ?_⟩
  by_cases z : 0 ≤ i ∧ i < 12 + 2 * f
  · rw [if_pos z, if_pos z]
    exact ⟨fun c => absurd c (by decide), fun c => r10 z⟩
  · rw [if_neg z, if_neg z]
    refine ⟨fun c => ?_, fun c => absurd rfl c⟩
    exact ⟨fun q => absurd q z, fun _ => ⟨rfl, sI_at _ _ _ _, FrT.code h (jI 1)⟩⟩
abbrev l286 (i m : Int) (l : Int64) (x5 : Option Value) : mj_Ls := [some (.ref 1412), some (.int (jI i)), some (.int (jI m)), some (.long l), none, x5]
/-- FormHouseModel.residue(II)I; cuts at [10, 21, 32, 34, 39, 44, 65, 71] -/
def cl_286_2 : List mj_E := (81, false, .lcmp, 1, 0, 0, 0, 0, 0) ::
  (82, false, .ifCond .le 10, 3, 55, 0, 0, 0, 0) ::
  (85, false, .iload_n 2, 1, 0, 0, 0, 0, 0) ::
  (86, false, .i2l, 1, 0, 0, 0, 0, 0) ::
  (87, false, .lload_n 3, 1, 0, 0, 0, 0, 0) ::
  (88, false, .lsub, 1, 0, 0, 0, 0, 0) ::
  (89, false, .goto 4, 3, 56, 0, 0, 0, 0) ::
  (92, false, .lload_n 3, 1, 0, 0, 0, 0, 0) ::
  (93, false, .l2i, 1, 0, 0, 0, 0, 0) ::
  (94, false, .ireturn, 1, 0, 0, 0, 0, 0) ::
  []
def cl_286_1 : List mj_E := (41, false, .ifCond .lt 30, 3, 42, 0, 0, 0, 0) ::
  (44, true, .lload_n 3, 1, 0, 0, 0, 0, 0) ::
  (45, false, .bipush 32, 2, 0, 0, 0, jI 32, 0) ::
  (47, false, .lshl, 1, 0, 0, 0, 0, 0) ::
  (48, false, .aload_n 0, 1, 0, 0, 0, 0, 0) ::
  (49, false, .iload_n 1, 1, 0, 0, 0, 0, 0) ::
  (50, false, .iload 5, 2, 0, 0, 0, 0, 0) ::
  (52, false, .invokevirtual 466, 3, 284, 2, 17, 0, 0) ::
  (55, false, .i2l, 1, 0, 0, 0, 0, 0) ::
  (56, false, .ldc2_w 471, 3, 0, 0, 0, 0, jL 4294967295) ::
  (59, false, .land, 1, 0, 0, 0, 0, 0) ::
  (60, false, .ladd, 1, 0, 0, 0, 0, 0) ::
  (61, false, .iload_n 2, 1, 0, 0, 0, 0, 0) ::
  (62, false, .i2l, 1, 0, 0, 0, 0, 0) ::
  (63, false, .lrem, 1, 0, 0, 0, 0, 0) ::
  (64, false, .lstore_n 3, 1, 0, 0, 0, 0, 0) ::
  (65, true, .iinc 5 (-1), 3, 0, 0, 0, jI (-1), 0) ::
  (68, false, .goto (-29), 3, 23, 0, 0, 0, 0) ::
  (71, true, .aload_n 0, 1, 0, 0, 0, 0, 0) ::
  (72, false, .iload_n 1, 1, 0, 0, 0, 0, 0) ::
  (73, false, .invokevirtual 460, 3, 281, 1, 17, 0, 0) ::
  (76, false, .ifCond .ge 16, 3, 55, 0, 0, 0, 0) ::
  (79, false, .lload_n 3, 1, 0, 0, 0, 0, 0) ::
  (80, false, .lconst 0, 1, 0, 0, 0, 0, jL 0) ::
  cl_286_2
def cl_286_0 : List mj_E := (0, false, .aload_n 0, 1, 0, 0, 0, 0, 0) ::
  (1, false, .iload_n 1, 1, 0, 0, 0, 0, 0) ::
  (2, false, .invokevirtual 457, 3, 280, 1, 17, 0, 0) ::
  (5, false, .ifCond .ne 5, 3, 6, 0, 0, 0, 0) ::
  (8, false, .iconst 0, 1, 0, 0, 0, jI 0, 0) ::
  (9, false, .ireturn, 1, 0, 0, 0, 0, 0) ::
  (10, true, .iload_n 2, 1, 0, 0, 0, 0, 0) ::
  (11, false, .iconst 1, 1, 0, 0, 0, jI 1, 0) ::
  (12, false, .if_icmp .ge 9, 3, 13, 0, 0, 0, 0) ::
  (15, false, .aload_n 0, 1, 0, 0, 0, 0, 0) ::
  (16, false, .iconst 2, 1, 0, 0, 0, jI 2, 0) ::
  (17, false, .invokevirtual 429, 3, 257, 1, 17, 0, 0) ::
  (20, false, .ireturn, 1, 0, 0, 0, 0, 0) ::
  (21, true, .iload_n 1, 1, 0, 0, 0, 0, 0) ::
  (22, false, .bipush 12, 2, 0, 0, 0, jI 12, 0) ::
  (24, false, .if_icmp .ge 8, 3, 19, 0, 0, 0, 0) ::
  (27, false, .aload_n 0, 1, 0, 0, 0, 0, 0) ::
  (28, false, .iload_n 1, 1, 0, 0, 0, 0, 0) ::
  (29, false, .invokevirtual 463, 3, 283, 1, 17, 0, 0) ::
  (32, true, .lconst 0, 1, 0, 0, 0, 0, jL 0) ::
  (33, false, .lstore_n 3, 1, 0, 0, 0, 0, 0) ::
  (34, true, .sipush 511, 3, 0, 0, 0, jI 511, 0) ::
  (37, false, .istore 5, 2, 0, 0, 0, 0, 0) ::
  (39, true, .iload 5, 2, 0, 0, 0, 0, 0) ::
  cl_286_1
def cd_286 : List mj_E := cl_286_0
def cx_286 : mj_X := (1, [], [])
theorem tb_286 : mj_tab (mj_mt 286) cx_286 cd_286 mj_mh [(0, 0, 0), (0, 0, 0), (9032, 0, 0), (0, 0, 0), (0, 0, 0), (0, 0, 0), (0, 0, 0), (0, 0, 0), (0, 0, 0), (0, 0, 0), (0, 0, 0), (8177, 0, 0), (0, 0, 0), (0, 0, 0), (0, 0, 0), (0, 0, 0), (0, 0, 0), (0, 0, 0), (9044, 0, 0), (0, 0, 0), (0, 0, 0), (0, 0, 0), (0, 0, 0), (0, 0, 0), (0, 0, 0), (0, 0, 0), (0, 0, 0), (0, 0, 0), (0, 0, 0), (0, 0, 0), (0, 0, 0), (9048, 0, 0), (0, 0, 0), (9061, 0, 0), (0, 0, 0), (0, 0, 0), (0, 0, 0), (0, 0, 0), (0, 0, 0), (0, 0, 0), (0, 0, 0), (0, 0, 0), (0, 0, 0), (0, 0, 0), (9036, 0, 0), (0, 0, 0), (0, 0, 0), (0, 0, 0), (0, 0, 0), (0, 0, 0), (0, 0, 0), (0, 0, 0), (0, 0, 0), (0, 0, 0), (0, 0, 0), (0, 0, 0), (0, 0, 0), (0, 0, 0)] = true := mj_tab_f (by decide +kernel)
theorem ct_286 (G : mj_G) {h : mj_H} (L : isLam h) {f : Nat} (hf : hI h 1412 35 = jI f) (hf2 : f ≤ 256) {i m : Int} (hi : -2147483648 ≤ i ∧ i < 2147483648) (hmm : -2147483648 ≤ m ∧ m < 2147483648) {V : Nat → Int} (hV : ∀ j, j < 12 + 2 * f → isTn h j (V j)) (hb : ∀ j, j < 12 + 2 * f → ((V j).natAbs : Int) < pB 1024) : mj_Ct G (mj_mt 286) 0 0 [.ref 1412, .int (jI i), .int (jI m)] h (fun o h' => (0 ≤ i ∧ i < 12 + 2 * f → (0 < m → jA (V i.toNat % m) 0 h o h') ∧ (¬ 0 < m → jA 0 2 h o h')) ∧ (¬ (0 ≤ i ∧ i < 12 + 2 * f) → jA 0 1 h o h')) := by
  refine mj_Ct_of mj_ok tb_286 rfl rfl (Nat.le_of_ble_eq_true rfl) (fun Run hR => ?_)
  have good : 0 ≤ i ∧ i < 12 + 2 * f → 0 < m → ∀ (h' : mj_H), FrT h h' → hI h' 1412 0 = jI 0 → isTz h' i.toNat (V i.toNat) → ∀ x3 x4 x5 : Option Value, Run 32 [some (.ref 1412), some (.int (jI i)), some (.int (jI m)), x3, x4, x5] [] h' (0, 0) := by
    intro z zm h' F hc hz
    have L' := F.1.lay L
    have tn := F.tn (hV i.toNat (by omega))
    have hbi := hb i.toNat (by omega)
    have ei : ((i.toNat : Nat) : Int) = i := by omega
    obtain ⟨v, hv⟩ : ∃ v, v = V i.toNat := ⟨_, rfl⟩
    rw [← hv] at hz hbi tn
    have r71 : ∀ (x5 : Option Value), Run 71 (l286 i m (jL ((v.natAbs : Int) % m)) x5) [] h' (0, 0) := by
      intro x5
      have c281 := ct_281 G L' (i := i.toNat) (by omega) tn
      rw [ei] at c281
      have q0 : 0 ≤ (v.natAbs : Int) % m := Int.emod_nonneg _ (by omega)
      have q1 : (v.natAbs : Int) % m < m := Int.emod_lt_of_pos _ zm
      have hs := sgn_rng v
      refine hR 60 42 _ _ _ _ _ _ rfl ?_
      refine ⟨L'.K 1412 rfl, jcall c281 ?_⟩
      refine ⟨fun c => ?_, fun c => ⟨fun c2 => ?_, fun c2 => ?_⟩⟩
      · simp (disch := omega) only [mj_lcm, jI_lt, jI_le, jI_eq, jL_lt, jL_le, jL_eq, jI_lt0, jI_0le, jI_0lt, jI_le0, jI_eq0, jL_eq0, jI_L, jI_add, jI_sub, jI_mul, jI_neg, jL_add, jL_sub, jL_mul, jL_neg, jL_I, jI_div, jI_mod, jL_div, jL_mod] at c
        refine ⟨fun _ => ⟨fun _ => ?_, fun q => absurd zm q⟩, fun q => absurd z q⟩
        rw [← hv]
        refine ⟨?_, hc, F⟩
        rw [jL_I]
        have hv0 : 0 ≤ v := by
          rcases Int.lt_or_le v 0 with q | q
          · rw [Int.sign_eq_neg_one_of_neg q] at c
            omega
          · exact q
        rw [show (v.natAbs : Int) = v by omega]
      · simp (disch := omega) only [mj_lcm, jI_lt, jI_le, jI_eq, jL_lt, jL_le, jL_eq, jI_lt0, jI_0le, jI_0lt, jI_le0, jI_eq0, jL_eq0, jI_L, jI_add, jI_sub, jI_mul, jI_neg, jL_add, jL_sub, jL_mul, jL_neg, jL_I, jI_div, jI_mod, jL_div, jL_mod] at c
        simp only [mj_lcm] at c2
        have c3 : jL ((v.natAbs : Int) % m) ≤ jL 0 := c2
        rw [jL_le (by omega) (by omega) (by omega) (by omega)] at c3
        refine ⟨fun _ => ⟨fun _ => ?_, fun q => absurd zm q⟩, fun q => absurd z q⟩
        rw [← hv]
        refine ⟨?_, hc, F⟩
        rw [jL_I]
        have hv0 : v < 0 := by
          rcases Int.lt_or_le v 0 with q | q
          · exact q
          · have := Int.sign_nonneg_iff.2 q
            omega
        have e0 : (v.natAbs : Int) % m = 0 := by omega
        have hd : m ∣ v := by
          have := Int.dvd_of_emod_eq_zero e0
          rwa [Int.dvd_natAbs] at this
        rw [e0, Int.emod_eq_zero_of_dvd hd]
      · simp (disch := omega) only [mj_lcm, jI_lt, jI_le, jI_eq, jL_lt, jL_le, jL_eq, jI_lt0, jI_0le, jI_0lt, jI_le0, jI_eq0, jL_eq0, jI_L, jI_add, jI_sub, jI_mul, jI_neg, jL_add, jL_sub, jL_mul, jL_neg, jL_I, jI_div, jI_mod, jL_div, jL_mod] at c
        simp only [mj_lcm] at c2
        have c3 : ¬ jL ((v.natAbs : Int) % m) ≤ jL 0 := c2
        rw [jL_le (by omega) (by omega) (by omega) (by omega)] at c3
        refine ⟨fun _ => ⟨fun _ => ?_, fun q => absurd zm q⟩, fun q => absurd z q⟩
        rw [← hv]
        refine ⟨?_, hc, F⟩
        rw [jI_L (by omega) (by omega), jL_sub, jL_I]
        have hv0 : v < 0 := by
          rcases Int.lt_or_le v 0 with q | q
          · exact q
          · have := Int.sign_nonneg_iff.2 q
            omega
        have h1 := Int.emod_add_mul_ediv (v.natAbs : Int) m
        have h2 : v = (m - (v.natAbs : Int) % m) + m * (-((v.natAbs : Int) / m) - 1) := by
          rw [Int.mul_sub, Int.mul_neg]
          omega
        have h3 : v % m = m - (v.natAbs : Int) % m := by
          rw [h2, Int.add_mul_emod_self_left, Int.emod_eq_of_lt (by omega) (by omega), ← h2]
        rw [h3]
    have r39 : ∀ (k : Nat) (kI : Int32) (lL : Int64), k ≤ 512 → lL = jL ((v.natAbs : Int) / pB (2 * k) % m) → kI = jI ((k : Int) - 1) → Run 39 (l286 i m lL (some (.int kI))) [] h' (0, 0) := by
      intro k
      induction k with
      | zero =>
        rintro kI lL hk rfl rfl
        refine hR 60 23 _ _ _ _ _ _ rfl ?_
        refine ⟨fun c => ?_, fun c => ?_⟩
        · rw [show pB (2 * 0) = 1 from rfl, Int.ediv_one]
          exact r71 _
        · simp (disch := omega) only [mj_lcm, jI_lt, jI_le, jI_eq, jL_lt, jL_le, jL_eq, jI_lt0, jI_0le, jI_0lt, jI_le0, jI_eq0, jL_eq0, jI_L, jI_add, jI_sub, jI_mul, jI_neg, jL_add, jL_sub, jL_mul, jL_neg, jL_I, jI_div, jI_mod, jL_div, jL_mod] at c
          omega
      | succ k ih =>
        rintro kI lL hk rfl rfl
        have ek : jI (((k + 1 : Nat) : Int) - 1) = jI (k : Int) := by
          congr 1
          omega
        rw [ek]
        have q0 : 0 ≤ (v.natAbs : Int) / pB (2 * (k + 1)) % m := Int.emod_nonneg _ (by omega)
        have q1 : (v.natAbs : Int) / pB (2 * (k + 1)) % m < m := Int.emod_lt_of_pos _ zm
        have c284 := ct_284 G L' (i := i.toNat) (k := k) (by omega) (by omega) hz
        rw [ei] at c284
        obtain ⟨A, hA⟩ : ∃ A, A = (v.natAbs : Int) / pB (2 * (k + 1)) := ⟨_, rfl⟩
        obtain ⟨B, hB⟩ : ∃ B, B = (v.natAbs : Int) / pB (2 * k) := ⟨_, rfl⟩
        rw [← hA] at q0 q1 ⊢
        rw [← hB] at c284
        have hAB : A = B / 4294967296 := by
          rw [hA, hB, Int.ediv_ediv_of_nonneg (Int.le_of_lt (pB_pos _)), show 2 * (k + 1) = 2 * k + 2 by omega, pB_add]
          rfl
        have b0 : 0 ≤ B % 4294967296 := Int.emod_nonneg _ (by decide)
        have b1 : B % 4294967296 < 4294967296 := Int.emod_lt_of_pos _ (by decide)
        have emk : (jI B).toInt64 &&& jL 4294967295 = jL (B % 4294967296) := by
          obtain ⟨u, u1, u2, c, hc⟩ : ∃ u : Int, -2147483648 ≤ u ∧ u < 2147483648 ∧ ∃ c : Int, B = u + 4294967296 * c := by
            refine ⟨(B + 2147483648) % 4294967296 - 2147483648, ?_, ?_, (B + 2147483648) / 4294967296, ?_⟩ <;> omega
          rw [show jI B = jI u from jI_congr (by omega), jI_L (by omega) (by omega), jL_mask (k := 32) (m := 4294967295) (by decide) (by decide)]
          congr 1
          rw [show (2 : Int) ^ 32 = 4294967296 from rfl]
          omega
        have esum : A % m * 4294967296 + B % 4294967296 = A % m * 4294967296 + B % 4294967296 := rfl
        have emod : (A % m * 4294967296 + B % 4294967296) % m = B % m := by
          have h1 : B = A * 4294967296 + B % 4294967296 := by
            rw [hAB]
            omega
          have h2 := Int.emod_add_mul_ediv A m
          have h3 : A * 4294967296 = A % m * 4294967296 + m * (A / m * 4294967296) := by
            rw [← Int.mul_assoc, ← Int.add_mul, h2]
          have h4 : B = (A % m * 4294967296 + B % 4294967296) + m * (A / m * 4294967296) := by omega
          have h5 : B % m = ((A % m * 4294967296 + B % 4294967296) + m * (A / m * 4294967296)) % m := by rw [← h4]
          rw [h5, Int.add_mul_emod_self_left]
        have r65 : ∀ lL : Int64, lL = jL (B % m) → Run 65 (l286 i m lL (some (.int (jI k)))) [] h' (0, 0) := by
          intro lL e
          refine hR 60 40 _ _ _ _ _ _ rfl ?_
          refine ih _ _ (by omega) (by rw [← hB]; exact e) ?_
          rw [jI_add]
          rfl
        have r44 : Run 44 (l286 i m (jL (A % m)) (some (.int (jI k)))) [] h' (0, 0) := by
          refine hR 60 25 _ _ _ _ _ _ rfl ?_
          refine ⟨L'.K 1412 rfl, jcall c284 ⟨?_, ?_⟩⟩
          · rw [jI_L (by omega) (by omega)]
            show ¬ jL m = jL 0
            rw [jL_eq (by omega) (by omega) (by omega) (by omega)]
            omega
          · refine r65 _ ?_
            rw [emk, jL_shl (K := 32) 32 (by decide) rfl, show (2 : Int) ^ 32 = 4294967296 from rfl, jL_add, jI_L (by omega) (by omega), jL_mod (by omega) (by omega) (by omega) (by omega), Int.tmod_eq_emod_of_nonneg (by omega), emod]
        refine hR 60 23 _ _ _ _ _ _ rfl ?_
        refine ⟨fun c => ?_, fun c => r44⟩
        simp (disch := omega) only [mj_lcm, jI_lt, jI_le, jI_eq, jL_lt, jL_le, jL_eq, jI_lt0, jI_0le, jI_0lt, jI_le0, jI_eq0, jL_eq0, jI_L, jI_add, jI_sub, jI_mul, jI_neg, jL_add, jL_sub, jL_mul, jL_neg, jL_I, jI_div, jI_mod, jL_div, jL_mod] at c
        omega
    have r34 : ∀ (x5 : Option Value), Run 34 (l286 i m (jL 0) x5) [] h' (0, 0) := by
      intro x5
      refine hR 60 21 _ _ _ _ _ _ rfl ?_
      refine r39 512 _ _ (Nat.le_refl _) ?_ rfl
      rw [show 2 * 512 = 1024 from rfl, Int.ediv_eq_zero_of_lt (by omega) hbi]
      rfl
    intro x3 x4 x5
    refine hR 60 19 _ _ _ _ _ _ rfl ?_
    exact r34 _
  have F := FrT.code h (jI 0)
  have L' := F.1.lay L
  have r21 : 0 ≤ i ∧ i < 12 + 2 * f → 0 < m → ∀ x3 x4 x5 : Option Value, Run 21 [some (.ref 1412), some (.int (jI i)), some (.int (jI m)), x3, x4, x5] [] (sI h 1412 0 (jI 0)) (0, 0) := by
    intro z zk x3 x4 x5
    have tn := F.tn (hV i.toNat (by omega))
    refine hR 60 13 _ _ _ _ _ _ rfl ?_
    refine ⟨fun c => ?_, fun c => ?_⟩
    · simp (disch := omega) only [mj_lcm, jI_lt, jI_le, jI_eq, jL_lt, jL_le, jL_eq, jI_lt0, jI_0le, jI_0lt, jI_le0, jI_eq0, jL_eq0, jI_L, jI_add, jI_sub, jI_mul, jI_neg, jL_add, jL_sub, jL_mul, jL_neg, jL_I, jI_div, jI_mod, jL_div, jL_mod] at c
      exact good z zk _ F (sI_at _ _ _ _) ((hV i.toNat (by omega)).z F (fun q => by omega)) _ _ _
    · simp (disch := omega) only [mj_lcm, jI_lt, jI_le, jI_eq, jL_lt, jL_le, jL_eq, jI_lt0, jI_0le, jI_0lt, jI_le0, jI_eq0, jL_eq0, jI_L, jI_add, jI_sub, jI_mul, jI_neg, jL_add, jL_sub, jL_mul, jL_neg, jL_I, jI_div, jI_mod, jL_div, jL_mod] at c
      obtain ⟨n1, n2⟩ := tn.1 (by omega)
      have c283 := ct_283 G L'.Md (i := i.toNat) (by omega) n1 n2
      rw [show ((i.toNat : Nat) : Int) = i by omega] at c283
      refine ⟨L'.K 1412 rfl, jcallP c283 ?_⟩
      rintro o h3 ⟨rfl, n3, F3⟩
      exact good z zk h3 (F.trans F3.T) ((congrFun (F3.1.2 1412 (by simp)) 0).trans (sI_at _ _ _ _)) ((hV i.toNat (by omega)).z (F.trans F3.T) (fun _ => n3)) _ _ _
  have r10 : 0 ≤ i ∧ i < 12 + 2 * f → ∀ x3 x4 x5 : Option Value, Run 10 [some (.ref 1412), some (.int (jI i)), some (.int (jI m)), x3, x4, x5] [] (sI h 1412 0 (jI 0)) (0, 0) := by
    intro z x3 x4 x5
    refine hR 60 6 _ _ _ _ _ _ rfl ?_
    refine ⟨fun c => ?_, fun c => ⟨L'.K 1412 rfl, jcallW (ct_257 G (L'.K 1412 rfl) _) ?_⟩⟩
    · simp (disch := omega) only [mj_lcm, jI_lt, jI_le, jI_eq, jL_lt, jL_le, jL_eq, jI_lt0, jI_0le, jI_0lt, jI_le0, jI_eq0, jL_eq0, jI_L, jI_add, jI_sub, jI_mul, jI_neg, jL_add, jL_sub, jL_mul, jL_neg, jL_I, jI_div, jI_mod, jL_div, jL_mod] at c
      exact r21 z (by omega) _ _ _
    · simp (disch := omega) only [mj_lcm, jI_lt, jI_le, jI_eq, jL_lt, jL_le, jL_eq, jI_lt0, jI_0le, jI_0lt, jI_le0, jI_eq0, jL_eq0, jI_L, jI_add, jI_sub, jI_mul, jI_neg, jL_add, jL_sub, jL_mul, jL_neg, jL_I, jI_div, jI_mod, jL_div, jL_mod] at c
      exact ⟨fun _ => ⟨fun q => by omega, fun _ => ⟨rfl, sI_at _ _ _ _, F.trans (FrT.code _ _)⟩⟩, fun q => absurd z q⟩
  refine hR 60 0 _ _ _ _ _ _ rfl ?_
  refine ⟨L.K 1412 rfl, jcallW (ct_280 G L hf hf2 hi) ?_⟩
  by_cases z : 0 ≤ i ∧ i < 12 + 2 * f
  · rw [if_pos z, if_pos z]
    exact ⟨fun c => absurd c (by decide), fun c => r10 z _ _ _⟩
  · rw [if_neg z, if_neg z]
    refine ⟨fun c => ?_, fun c => absurd rfl c⟩
    exact ⟨fun q => absurd q z, fun _ => ⟨rfl, sI_at _ _ _ _, FrT.code h (jI 1)⟩⟩
