/-! the model: a pair without common divisor is completed; the root of a solution -/
theorem cp_abs {p r : Int} (hr : r ≠ 0) : (p.tdiv r).natAbs * r.natAbs + (p - p.tdiv r * r).natAbs = p.natAbs := by
  have h1 : p - p.tdiv r * r = p.tmod r := by
    have := Int.mul_tdiv_add_tmod p r
    rw [Int.mul_comm r] at this
    omega
  rw [h1, Int.natAbs_tdiv, Int.natAbs_tmod, Nat.mul_comm]
  exact Nat.div_add_mod _ _
theorem cp_inv {p r p1 r1 : Int} {Y : Nat} (hr : r ≠ 0) (h : r1.natAbs * p.natAbs + p1.natAbs * r.natAbs ≤ Y) : (p1 - p.tdiv r * r1).natAbs * r.natAbs + r1.natAbs * (p - p.tdiv r * r).natAbs ≤ Y := by
  have h1 := cp_abs (p := p) hr
  have h2 : (p1 - p.tdiv r * r1).natAbs ≤ p1.natAbs + (p.tdiv r).natAbs * r1.natAbs := by
    rw [← Int.natAbs_mul]
    omega
  have h3 : (p1 - p.tdiv r * r1).natAbs * r.natAbs ≤ (p1.natAbs + (p.tdiv r).natAbs * r1.natAbs) * r.natAbs := Nat.mul_le_mul h2 (Nat.le_refl _)
  have h4 : (p1.natAbs + (p.tdiv r).natAbs * r1.natAbs) * r.natAbs + r1.natAbs * (p - p.tdiv r * r).natAbs = p1.natAbs * r.natAbs + r1.natAbs * p.natAbs := by
    rw [← h1, Nat.add_mul, Nat.mul_add, Nat.mul_comm (p.tdiv r).natAbs r1.natAbs, Nat.mul_assoc, Nat.add_assoc]
  omega
theorem cp_bd {p : Int} (h : p.natAbs < 1152921504606846976) : -9223372036854775808 < p ∧ p < 9223372036854775808 := by omega
theorem cp_eq0 {r : Int} (h : r.natAbs < 1152921504606846976) : (jL r = jL 0) ↔ r = 0 := jL_eq (Int.le_of_lt (cp_bd h).1) (cp_bd h).2 (by decide) (by decide)
theorem cp_dv {p r : Int} (h : p.natAbs < 1152921504606846976) (h' : r.natAbs < 1152921504606846976) : jL p / jL r = jL (p.tdiv r) := jL_div (cp_bd h).1 (cp_bd h).2 (Int.le_of_lt (cp_bd h').1) (cp_bd h').2
theorem le_of_mulN {a b Y : Nat} (hb : b ≠ 0) (h : a * b ≤ Y) : a ≤ Y := Nat.le_trans (Nat.le_mul_of_pos_right a (by omega)) h
abbrev jQs (k : Nat) : Prop := k = 56 ∨ k = 57
abbrev l232 (x y p r p1 p2 r1 r2 : Int64) (x17 x18 x19 x20 : Option Value) : mj_Ls := [some (.ref 1412), some (.long x), none, some (.long y), none, some (.long p), none, some (.long r), none, some (.long p1), none, some (.long p2), none, some (.long r1), none, some (.long r2), none, x17, x18, x19, x20]
/-- FormHouseModel.complete(JJ)V; cuts at [6, 12, 18, 32, 42, 46, 50, 60, 64, 68, 78, 82] -/
def cl_232_2 : List mj_E := (82, true, .lload 19, 2, 0, 0, 0, 0, 0) ::
  (84, false, .lstore 15, 2, 0, 0, 0, 0, 0) ::
  (86, false, .goto (-68), 3, 12, 0, 0, 0, 0) ::
  (89, false, .aload_n 0, 1, 0, 0, 0, 0, 0) ::
  (90, false, .lload 5, 2, 0, 0, 0, 0, 0) ::
  (92, false, .lload 9, 2, 0, 0, 0, 0, 0) ::
  (94, false, .lmul, 1, 0, 0, 0, 0, 0) ::
  (95, false, .putfield 403, 3, 17, 57, 1, 0, 0) ::
  (98, false, .aload_n 0, 1, 0, 0, 0, 0, 0) ::
  (99, false, .lload 5, 2, 0, 0, 0, 0, 0) ::
  (101, false, .lneg, 1, 0, 0, 0, 0, 0) ::
  (102, false, .lload 11, 2, 0, 0, 0, 0, 0) ::
  (104, false, .lmul, 1, 0, 0, 0, 0, 0) ::
  (105, false, .putfield 406, 3, 17, 56, 1, 0, 0) ::
  (108, false, .return_, 1, 0, 0, 0, 0, 0) ::
  []
def cl_232_1 : List mj_E := (39, false, .lsub, 1, 0, 0, 0, 0, 0) ::
  (40, false, .lstore 19, 2, 0, 0, 0, 0, 0) ::
  (42, true, .lload 7, 2, 0, 0, 0, 0, 0) ::
  (44, false, .lstore 5, 2, 0, 0, 0, 0, 0) ::
  (46, true, .lload 19, 2, 0, 0, 0, 0, 0) ::
  (48, false, .lstore 7, 2, 0, 0, 0, 0, 0) ::
  (50, true, .lload 9, 2, 0, 0, 0, 0, 0) ::
  (52, false, .lload 17, 2, 0, 0, 0, 0, 0) ::
  (54, false, .lload 13, 2, 0, 0, 0, 0, 0) ::
  (56, false, .lmul, 1, 0, 0, 0, 0, 0) ::
  (57, false, .lsub, 1, 0, 0, 0, 0, 0) ::
  (58, false, .lstore 19, 2, 0, 0, 0, 0, 0) ::
  (60, true, .lload 13, 2, 0, 0, 0, 0, 0) ::
  (62, false, .lstore 9, 2, 0, 0, 0, 0, 0) ::
  (64, true, .lload 19, 2, 0, 0, 0, 0, 0) ::
  (66, false, .lstore 13, 2, 0, 0, 0, 0, 0) ::
  (68, true, .lload 11, 2, 0, 0, 0, 0, 0) ::
  (70, false, .lload 17, 2, 0, 0, 0, 0, 0) ::
  (72, false, .lload 15, 2, 0, 0, 0, 0, 0) ::
  (74, false, .lmul, 1, 0, 0, 0, 0, 0) ::
  (75, false, .lsub, 1, 0, 0, 0, 0, 0) ::
  (76, false, .lstore 19, 2, 0, 0, 0, 0, 0) ::
  (78, true, .lload 15, 2, 0, 0, 0, 0, 0) ::
  (80, false, .lstore 11, 2, 0, 0, 0, 0, 0) ::
  cl_232_2
def cl_232_0 : List mj_E := (0, false, .lload_n 1, 1, 0, 0, 0, 0, 0) ::
  (1, false, .lstore 5, 2, 0, 0, 0, 0, 0) ::
  (3, false, .lload_n 3, 1, 0, 0, 0, 0, 0) ::
  (4, false, .lstore 7, 2, 0, 0, 0, 0, 0) ::
  (6, true, .lconst 1, 1, 0, 0, 0, 0, jL 1) ::
  (7, false, .lstore 9, 2, 0, 0, 0, 0, 0) ::
  (9, false, .lconst 0, 1, 0, 0, 0, 0, jL 0) ::
  (10, false, .lstore 11, 2, 0, 0, 0, 0, 0) ::
  (12, true, .lconst 0, 1, 0, 0, 0, 0, jL 0) ::
  (13, false, .lstore 13, 2, 0, 0, 0, 0, 0) ::
  (15, false, .lconst 1, 1, 0, 0, 0, 0, jL 1) ::
  (16, false, .lstore 15, 2, 0, 0, 0, 0, 0) ::
  (18, true, .lload 7, 2, 0, 0, 0, 0, 0) ::
  (20, false, .lconst 0, 1, 0, 0, 0, 0, jL 0) ::
  (21, false, .lcmp, 1, 0, 0, 0, 0, 0) ::
  (22, false, .ifCond .eq 67, 3, 51, 0, 0, 0, 0) ::
  (25, false, .lload 5, 2, 0, 0, 0, 0, 0) ::
  (27, false, .lload 7, 2, 0, 0, 0, 0, 0) ::
  (29, false, .ldiv, 1, 0, 0, 0, 0, 0) ::
  (30, false, .lstore 17, 2, 0, 0, 0, 0, 0) ::
  (32, true, .lload 5, 2, 0, 0, 0, 0, 0) ::
  (34, false, .lload 17, 2, 0, 0, 0, 0, 0) ::
  (36, false, .lload 7, 2, 0, 0, 0, 0, 0) ::
  (38, false, .lmul, 1, 0, 0, 0, 0, 0) ::
  cl_232_1
def cd_232 : List mj_E := cl_232_0
def cx_232 : mj_X := (0, [], [])
theorem tb_232 : mj_tab (mj_mt 232) cx_232 cd_232 mj_mh [(0, 0, 0), (0, 0, 0), (0, 0, 0), (0, 0, 0), (0, 0, 0), (0, 0, 0), (0, 0, 0), (0, 0, 0), (0, 0, 0), (0, 0, 0), (0, 0, 0), (0, 0, 0), (0, 0, 0), (0, 0, 0), (0, 0, 0), (0, 0, 0), (0, 0, 0), (0, 0, 0), (0, 0, 0), (0, 0, 0), (0, 0, 0), (0, 0, 0), (0, 0, 0), (0, 0, 0), (0, 0, 0), (0, 0, 0), (0, 0, 0), (0, 0, 0), (0, 0, 0), (0, 0, 0), (0, 0, 0), (0, 0, 0), (0, 0, 0), (0, 0, 0), (0, 0, 0), (0, 0, 0), (0, 0, 0), (0, 0, 0), (0, 0, 0), (0, 0, 0), (0, 0, 0), (0, 0, 0), (0, 0, 0), (0, 0, 0), (0, 0, 0), (0, 0, 0), (0, 0, 0), (0, 0, 0), (0, 0, 0), (0, 0, 0), (0, 0, 0), (0, 0, 0), (0, 0, 0), (0, 0, 0), (0, 0, 0), (7156, 0, 0), (0, 0, 0), (0, 0, 0), (0, 0, 0), (0, 0, 0), (0, 0, 0), (7155, 0, 0), (0, 0, 0)] = true := mj_tab_f (by decide +kernel)
theorem ct_232 (G : mj_G) {h : mj_H} (L : isLam h) {x y : Int} (hx : -1152921504606846976 < x ∧ x < 1152921504606846976) (hy : -1152921504606846976 < y ∧ y < 1152921504606846976) (hg : Int.gcd x y = 1) : mj_Ct G (mj_mt 232) 0 0 [.ref 1412, .long (jL x), .long (jL y)] h (fun o h' => o = .returned none ∧ (∃ q s : Int, hJ h' 1412 56 = jL q ∧ hJ h' 1412 57 = jL s ∧ x * s - y * q = 1 ∧ s.natAbs ≤ y.natAbs + 1 ∧ q.natAbs ≤ x.natAbs + 1) ∧ FrM noT jQs noT h h') := by
  have k := L.K 1412 rfl
  refine mj_Ct_of mj_ok tb_232 rfl rfl (Nat.le_of_ble_eq_true rfl) (fun Run hR => ?_)
  have loop : ∀ (m : Nat) (p r p1 p2 r1 r2 : Int) (pL rL p1L p2L r1L r2L : Int64) (x17 x18 x19 x20 : Option Value), r.natAbs ≤ m → p1 * x + p2 * y = p → r1 * x + r2 * y = r → Int.gcd p r = 1 → r1.natAbs * p.natAbs + p1.natAbs * r.natAbs ≤ y.natAbs → r2.natAbs * p.natAbs + p2.natAbs * r.natAbs ≤ x.natAbs → p1.natAbs ≤ y.natAbs + 1 → p2.natAbs ≤ x.natAbs + 1 → (p = 0 → r1.natAbs ≤ 1 ∧ r2.natAbs ≤ 1) → (p.natAbs < 1152921504606846976 ∧ r.natAbs < 1152921504606846976) → pL = jL p → rL = jL r → p1L = jL p1 → p2L = jL p2 → r1L = jL r1 → r2L = jL r2 → Run 18 (l232 (jL x) (jL y) pL rL p1L p2L r1L r2L x17 x18 x19 x20) [] h (0, 0) := by
    intro m
    induction m with
    | zero =>
      rintro p r p1 p2 r1 r2 pL rL p1L p2L r1L r2L x17 x18 x19 x20 hm e1 e2 hgg i1 i2 b1 b2 b0 bp rfl rfl rfl rfl rfl rfl
      have hr0 : r = 0 := by omega
      subst hr0
      rw [Int.gcd_zero_right] at hgg
      refine hR 60 12 _ _ _ _ _ _ rfl ?_
      refine ⟨fun c => ⟨k, k, rfl, ⟨-p * p2, p * p1, ?_, ?_, ?_, ?_, ?_⟩, ((FrM.refl noT jQs noT h).fJ (k := 57) (by omega) _).fJ (k := 56) (by omega) _⟩, fun c => absurd rfl c⟩
      · refine (sJ_at _ _ _ _).trans ?_
        rw [jL_neg, jL_mul]
      · show jL p * jL p1 = _
        rw [jL_mul]
      · have hpp : p * p = 1 := by
          rcases (show p = 1 ∨ p = -1 by omega) with z | z <;> rw [z] <;> rfl
        have : x * (p * p1) - y * (-p * p2) = p * (p1 * x + p2 * y) := by grind
        rw [this, e1, hpp]
      · rw [Int.natAbs_mul, hgg, Nat.one_mul]
        exact b1
      · rw [Int.natAbs_mul, Int.natAbs_neg, hgg, Nat.one_mul]
        exact b2
    | succ m ih =>
      rintro p r p1 p2 r1 r2 pL rL p1L p2L r1L r2L x17 x18 x19 x20 hm e1 e2 hgg i1 i2 b1 b2 b0 bp rfl rfl rfl rfl rfl rfl
      by_cases hr0 : r = 0
      · exact ih p r p1 p2 r1 r2 _ _ _ _ _ _ _ _ _ _ (by omega) e1 e2 hgg i1 i2 b1 b2 b0 bp rfl rfl rfl rfl rfl rfl
      have ha := cp_abs (p := p) hr0
      have j1 := cp_inv (p := p) (p1 := p1) (r1 := r1) hr0 i1
      have j2 := cp_inv (p := p) (p1 := p2) (r1 := r2) hr0 i2
      obtain ⟨q, hq⟩ : ∃ q, q = p.tdiv r := ⟨_, rfl⟩
      have hdiv : jL p / jL r = jL q := by rw [cp_dv bp.1 bp.2, hq]
      have hlt : (p - q * r).natAbs < r.natAbs := by
        have h1 : p - q * r = p.tmod r := by
          have := Int.mul_tdiv_add_tmod p r
          rw [hq, Int.mul_comm (p.tdiv r) r]
          omega
        rw [h1, Int.natAbs_tmod]
        exact Nat.mod_lt _ (by omega)
      rw [← hq] at ha j1 j2
      have hr1b : r1.natAbs ≤ y.natAbs + 1 := by
        by_cases z : p = 0
        · have := (b0 z).1
          omega
        · have := le_of_mulN (a := r1.natAbs) (b := p.natAbs) (Y := y.natAbs) (by omega) (by omega)
          omega
      have hr2b : r2.natAbs ≤ x.natAbs + 1 := by
        by_cases z : p = 0
        · have := (b0 z).2
          omega
        · have := le_of_mulN (a := r2.natAbs) (b := p.natAbs) (Y := x.natAbs) (by omega) (by omega)
          omega
      have r82 : ∀ (zL : Int64) (x17 x18 : Option Value), zL = jL (p2 - q * r2) → Run 82 (l232 (jL x) (jL y) (jL r) (jL (p - q * r)) (jL r1) (jL r2) (jL (p1 - q * r1)) (jL r2) x17 x18 (some (.long zL)) none) [] h (0, 0) := by
        rintro zL x17 x18 rfl
        refine hR 60 48 _ _ _ _ _ _ rfl ?_
        refine ih r (p - q * r) r1 r2 (p1 - q * r1) (p2 - q * r2) _ _ _ _ _ _ _ _ _ _ (Nat.le_of_lt_succ (Nat.lt_of_lt_of_le hlt hm)) e2 ?_ ?_ j1 j2 hr1b hr2b (fun z => absurd z hr0) ⟨bp.2, Nat.lt_trans hlt bp.2⟩ rfl rfl rfl rfl rfl rfl
        · rw [← e1, ← e2]
          grind
        · have h9 := Int.gcd_add_mul_left_left r (p - q * r) q
          rw [show p - q * r + r * q = p by rw [Int.mul_comm r q]; omega] at h9
          rw [Int.gcd_comm, ← h9]
          exact hgg
      have r78 : ∀ (zL : Int64) (x17 x18 : Option Value), zL = jL (p2 - q * r2) → Run 78 (l232 (jL x) (jL y) (jL r) (jL (p - q * r)) (jL r1) (jL p2) (jL (p1 - q * r1)) (jL r2) x17 x18 (some (.long zL)) none) [] h (0, 0) := by
        intro zL x17 x18 e
        refine hR 60 46 _ _ _ _ _ _ rfl ?_
        exact r82 _ _ _ e
      have r68 : ∀ (r1L qL : Int64) (x19 x20 : Option Value), r1L = jL (p1 - q * r1) → qL = jL q → Run 68 (l232 (jL x) (jL y) (jL r) (jL (p - q * r)) (jL r1) (jL p2) r1L (jL r2) (some (.long qL)) none x19 x20) [] h (0, 0) := by
        rintro r1L qL x19 x20 rfl rfl
        refine hR 60 40 _ _ _ _ _ _ rfl ?_
        exact r78 _ _ _ (by rw [jL_mul, jL_sub])
      have r64 : ∀ (zL qL : Int64), zL = jL (p1 - q * r1) → qL = jL q → Run 64 (l232 (jL x) (jL y) (jL r) (jL (p - q * r)) (jL r1) (jL p2) (jL r1) (jL r2) (some (.long qL)) none (some (.long zL)) none) [] h (0, 0) := by
        intro zL qL e1 e2
        refine hR 60 38 _ _ _ _ _ _ rfl ?_
        exact r68 _ _ _ _ e1 e2
      have r60 : ∀ (zL qL : Int64), zL = jL (p1 - q * r1) → qL = jL q → Run 60 (l232 (jL x) (jL y) (jL r) (jL (p - q * r)) (jL p1) (jL p2) (jL r1) (jL r2) (some (.long qL)) none (some (.long zL)) none) [] h (0, 0) := by
        intro zL qL e1 e2
        refine hR 60 36 _ _ _ _ _ _ rfl ?_
        exact r64 _ _ e1 e2
      have r50 : ∀ (rL qL : Int64) (x19 x20 : Option Value), rL = jL (p - q * r) → qL = jL q → Run 50 (l232 (jL x) (jL y) (jL r) rL (jL p1) (jL p2) (jL r1) (jL r2) (some (.long qL)) none x19 x20) [] h (0, 0) := by
        rintro rL qL x19 x20 rfl rfl
        refine hR 60 30 _ _ _ _ _ _ rfl ?_
        exact r60 _ _ (by rw [jL_mul, jL_sub]) rfl
      have r46 : ∀ (zL qL : Int64), zL = jL (p - q * r) → qL = jL q → Run 46 (l232 (jL x) (jL y) (jL r) (jL r) (jL p1) (jL p2) (jL r1) (jL r2) (some (.long qL)) none (some (.long zL)) none) [] h (0, 0) := by
        intro zL qL e1 e2
        refine hR 60 28 _ _ _ _ _ _ rfl ?_
        exact r50 _ _ _ _ e1 e2
      have r42 : ∀ (zL qL : Int64), zL = jL (p - q * r) → qL = jL q → Run 42 (l232 (jL x) (jL y) (jL p) (jL r) (jL p1) (jL p2) (jL r1) (jL r2) (some (.long qL)) none (some (.long zL)) none) [] h (0, 0) := by
        intro zL qL e1 e2
        refine hR 60 26 _ _ _ _ _ _ rfl ?_
        exact r46 _ _ e1 e2
      have r32 : ∀ (qL : Int64) (x19 x20 : Option Value), qL = jL q → Run 32 (l232 (jL x) (jL y) (jL p) (jL r) (jL p1) (jL p2) (jL r1) (jL r2) (some (.long qL)) none x19 x20) [] h (0, 0) := by
        rintro qL x19 x20 rfl
        refine hR 60 20 _ _ _ _ _ _ rfl ?_
        exact r42 _ _ (by rw [jL_mul, jL_sub]) rfl
      refine hR 60 12 _ _ _ _ _ _ rfl ?_
      refine ⟨fun c => ?_, fun c => ⟨?_, ?_⟩⟩
      · have c' : jL r = jL 0 := c
        rw [cp_eq0 bp.2] at c'
        exact absurd c' hr0
      · show ¬ jL r = jL 0
        rw [cp_eq0 bp.2]
        exact hr0
      · exact r32 _ _ _ hdiv
  have r12 : ∀ (x13 x14 x15 x16 x17 x18 x19 x20 : Option Value), Run 12 [some (.ref 1412), some (.long (jL x)), none, some (.long (jL y)), none, some (.long (jL x)), none, some (.long (jL y)), none, some (.long (jL 1)), none, some (.long (jL 0)), none, x13, x14, x15, x16, x17, x18, x19, x20] [] h (0, 0) := by
    intro x13 x14 x15 x16 x17 x18 x19 x20
    refine hR 60 8 _ _ _ _ _ _ rfl ?_
    refine loop y.natAbs x y 1 0 0 1 _ _ _ _ _ _ _ _ _ _ (Nat.le_refl _) (by omega) (by omega) hg ?_ ?_ ?_ ?_ (fun _ => ⟨by decide, by decide⟩) (by omega) rfl rfl rfl rfl rfl rfl
    · show 0 * x.natAbs + 1 * y.natAbs ≤ y.natAbs
      omega
    · show 1 * x.natAbs + 0 * y.natAbs ≤ x.natAbs
      omega
    · show 1 ≤ y.natAbs + 1
      omega
    · show 0 ≤ x.natAbs + 1
      omega
  have r6 : ∀ (x9 x10 x11 x12 x13 x14 x15 x16 x17 x18 x19 x20 : Option Value), Run 6 [some (.ref 1412), some (.long (jL x)), none, some (.long (jL y)), none, some (.long (jL x)), none, some (.long (jL y)), none, x9, x10, x11, x12, x13, x14, x15, x16, x17, x18, x19, x20] [] h (0, 0) := by
    intro x9 x10 x11 x12 x13 x14 x15 x16 x17 x18 x19 x20
    refine hR 60 4 _ _ _ _ _ _ rfl ?_
    exact r12 _ _ _ _ _ _ _ _
  refine hR 60 0 _ _ _ _ _ _ rfl ?_
  exact r6 _ _ _ _ _ _ _ _ _ _ _ _
