/-! contracts: common divisors, names of rings -/
theorem bd_less {u b : Int} (h : u.natAbs < b.natAbs) (hb : -4611686018427387904 < b ∧ b < 4611686018427387904) : -4611686018427387904 < u ∧ u < 4611686018427387904 := by omega
abbrev l81 (c : Nat) (x y a b p q r s : Int64) (u1 u2 u3 u4 u5 u6 u7 u8 : Option Value) : mj_Ls := [some (.ref c), some (.long x), none, some (.long y), none, some (.long a), none, some (.long b), none, some (.long p), none, some (.long q), none, some (.long r), none, some (.long s), none, u1, u2, u3, u4, u5, u6, u7, u8]
def isCm (h : mj_H) (c : Nat) (g u v : Int) : Prop := hK h c = 20 ∧ hJ h c 0 = jL g ∧ hJ h c 1 = jL u ∧ hJ h c 2 = jL v
theorem isCm.F {S T : Nat → Prop} {h h' : mj_H} (f : Fr S T h h') {c : Nat} {g u v : Int} (a : isCm h c g u v) (h1 : ¬ S c) : isCm h' c g u v := by
  obtain ⟨a1, a2, a3, a4⟩ := a
  exact ⟨(f.K _).trans a1, (f.J h1 _).trans a2, (f.J h1 _).trans a3, (f.J h1 _).trans a4⟩
theorem abs_le {a b c : Int} (h : (a * b).natAbs ≤ c.natAbs) (hb : b ≠ 0) : a.natAbs ≤ c.natAbs := by
  rw [Int.natAbs_mul] at h
  have : a.natAbs * 1 ≤ a.natAbs * b.natAbs := Nat.mul_le_mul_left _ (by omega)
  omega
/-- the invariant of the two ends -/
theorem euc_step {a b p q k t y : Int} (ht : a = k * b + t) (habs : a.natAbs = k.natAbs * b.natAbs + t.natAbs) (h : q.natAbs * a.natAbs + p.natAbs * b.natAbs ≤ y.natAbs) : (p - k * q).natAbs * b.natAbs + q.natAbs * t.natAbs ≤ y.natAbs := by
  have h1 : (p - k * q).natAbs ≤ p.natAbs + k.natAbs * q.natAbs := by
    rw [← Int.natAbs_mul]
    omega
  have h2 : (p - k * q).natAbs * b.natAbs ≤ (p.natAbs + k.natAbs * q.natAbs) * b.natAbs := Nat.mul_le_mul_right _ h1
  rw [habs] at h
  have e : (p.natAbs + k.natAbs * q.natAbs) * b.natAbs + q.natAbs * t.natAbs = q.natAbs * (k.natAbs * b.natAbs + t.natAbs) + p.natAbs * b.natAbs := by grind
  omega
theorem tdiv_abs (a b : Int) : a.natAbs = (a.tdiv b).natAbs * b.natAbs + (a - a.tdiv b * b).natAbs := by
  have h1 := Int.mul_tdiv_add_tmod a b
  have e : a - a.tdiv b * b = a.tmod b := by
    rw [Int.mul_comm]
    omega
  rw [e, Int.natAbs_tdiv, Int.natAbs_tmod]
  have := Nat.div_add_mod a.natAbs b.natAbs
  rw [Nat.mul_comm] at this
  exact this.symm
theorem tdiv_lt (a : Int) {b : Int} (hb : b ≠ 0) : (a - a.tdiv b * b).natAbs < b.natAbs := by
  have h1 := Int.mul_tdiv_add_tmod a b
  have e : a - a.tdiv b * b = a.tmod b := by
    rw [Int.mul_comm]
    omega
  rw [e, Int.natAbs_tmod]
  exact Nat.mod_lt _ (by omega)
theorem gcd_tstep (a b : Int) : Int.gcd b (a - a.tdiv b * b) = Int.gcd a b := by
  have h1 := Int.mul_tdiv_add_tmod a b
  have e : a - a.tdiv b * b = a.tmod b := by
    rw [Int.mul_comm]
    omega
  rw [e]
  show Nat.gcd b.natAbs (a.tmod b).natAbs = Nat.gcd a.natAbs b.natAbs
  rw [Int.natAbs_tmod, Nat.gcd_comm a.natAbs, Nat.gcd_rec b.natAbs a.natAbs, Nat.gcd_comm]
/-- FormHouse$Common.of(JJ)V; cuts at [6, 12, 18, 32, 42, 50, 60, 68, 78, 89, 103, 120, 137] -/
def cl_81_3 : List mj_E := (129, false, .goto 5, 3, 74, 0, 0, 0, 0) ::
  (132, false, .lload 9, 2, 0, 0, 0, 0, 0) ::
  (134, false, .putfield 13, 3, 10, 1, 1, 0, 0) ::
  (137, true, .aload_n 0, 1, 0, 0, 0, 0, 0) ::
  (138, false, .iload 17, 2, 0, 0, 0, 0, 0) ::
  (140, false, .ifCond .eq 9, 3, 81, 0, 0, 0, 0) ::
  (143, false, .lload 13, 2, 0, 0, 0, 0, 0) ::
  (145, false, .lneg, 1, 0, 0, 0, 0, 0) ::
  (146, false, .goto 5, 3, 82, 0, 0, 0, 0) ::
  (149, false, .lload 13, 2, 0, 0, 0, 0, 0) ::
  (151, false, .putfield 16, 3, 10, 2, 1, 0, 0) ::
  (154, false, .return_, 1, 0, 0, 0, 0, 0) ::
  []
def cl_81_2 : List mj_E := (82, false, .lload 23, 2, 0, 0, 0, 0, 0) ::
  (84, false, .lstore 15, 2, 0, 0, 0, 0, 0) ::
  (86, false, .goto (-68), 3, 12, 0, 0, 0, 0) ::
  (89, true, .lload 5, 2, 0, 0, 0, 0, 0) ::
  (91, false, .lconst 0, 1, 0, 0, 0, 0, jL 0) ::
  (92, false, .lcmp, 1, 0, 0, 0, 0, 0) ::
  (93, false, .ifCond .ge 7, 3, 57, 0, 0, 0, 0) ::
  (96, false, .iconst 1, 1, 0, 0, 0, jI 1, 0) ::
  (97, false, .goto 4, 3, 58, 0, 0, 0, 0) ::
  (100, false, .iconst 0, 1, 0, 0, 0, jI 0, 0) ::
  (101, false, .istore 17, 2, 0, 0, 0, 0, 0) ::
  (103, true, .aload_n 0, 1, 0, 0, 0, 0, 0) ::
  (104, false, .iload 17, 2, 0, 0, 0, 0, 0) ::
  (106, false, .ifCond .eq 9, 3, 65, 0, 0, 0, 0) ::
  (109, false, .lload 5, 2, 0, 0, 0, 0, 0) ::
  (111, false, .lneg, 1, 0, 0, 0, 0, 0) ::
  (112, false, .goto 5, 3, 66, 0, 0, 0, 0) ::
  (115, false, .lload 5, 2, 0, 0, 0, 0, 0) ::
  (117, false, .putfield 7, 3, 10, 0, 1, 0, 0) ::
  (120, true, .aload_n 0, 1, 0, 0, 0, 0, 0) ::
  (121, false, .iload 17, 2, 0, 0, 0, 0, 0) ::
  (123, false, .ifCond .eq 9, 3, 73, 0, 0, 0, 0) ::
  (126, false, .lload 9, 2, 0, 0, 0, 0, 0) ::
  (128, false, .lneg, 1, 0, 0, 0, 0, 0) ::
  cl_81_3
def cl_81_1 : List mj_E := (39, false, .lsub, 1, 0, 0, 0, 0, 0) ::
  (40, false, .lstore 19, 2, 0, 0, 0, 0, 0) ::
  (42, true, .lload 7, 2, 0, 0, 0, 0, 0) ::
  (44, false, .lstore 5, 2, 0, 0, 0, 0, 0) ::
  (46, false, .lload 19, 2, 0, 0, 0, 0, 0) ::
  (48, false, .lstore 7, 2, 0, 0, 0, 0, 0) ::
  (50, true, .lload 9, 2, 0, 0, 0, 0, 0) ::
  (52, false, .lload 17, 2, 0, 0, 0, 0, 0) ::
  (54, false, .lload 11, 2, 0, 0, 0, 0, 0) ::
  (56, false, .lmul, 1, 0, 0, 0, 0, 0) ::
  (57, false, .lsub, 1, 0, 0, 0, 0, 0) ::
  (58, false, .lstore 21, 2, 0, 0, 0, 0, 0) ::
  (60, true, .lload 11, 2, 0, 0, 0, 0, 0) ::
  (62, false, .lstore 9, 2, 0, 0, 0, 0, 0) ::
  (64, false, .lload 21, 2, 0, 0, 0, 0, 0) ::
  (66, false, .lstore 11, 2, 0, 0, 0, 0, 0) ::
  (68, true, .lload 13, 2, 0, 0, 0, 0, 0) ::
  (70, false, .lload 17, 2, 0, 0, 0, 0, 0) ::
  (72, false, .lload 15, 2, 0, 0, 0, 0, 0) ::
  (74, false, .lmul, 1, 0, 0, 0, 0, 0) ::
  (75, false, .lsub, 1, 0, 0, 0, 0, 0) ::
  (76, false, .lstore 23, 2, 0, 0, 0, 0, 0) ::
  (78, true, .lload 15, 2, 0, 0, 0, 0, 0) ::
  (80, false, .lstore 13, 2, 0, 0, 0, 0, 0) ::
  cl_81_2
def cl_81_0 : List mj_E := (0, false, .lload_n 1, 1, 0, 0, 0, 0, 0) ::
  (1, false, .lstore 5, 2, 0, 0, 0, 0, 0) ::
  (3, false, .lload_n 3, 1, 0, 0, 0, 0, 0) ::
  (4, false, .lstore 7, 2, 0, 0, 0, 0, 0) ::
  (6, true, .lconst 1, 1, 0, 0, 0, 0, jL 1) ::
  (7, false, .lstore 9, 2, 0, 0, 0, 0, 0) ::
  (9, false, .lconst 0, 1, 0, 0, 0, 0, jL 0) ::
  (10, false, .lstore 11, 2, 0, 0, 0, 0, 0) ::
  (12, true, .lconst 0, 1, 0, 0, 0, 0, jL 0) ::
  (13, false, .lstore 13, 2, 0, 0, 0, 0, 0) ::
  (15, false, .lconst 1, 1, 0, 0, 0, 0, jL 1) ::
  (16, false, .lstore 15, 2, 0, 0, 0, 0, 0) ::
  (18, true, .lload 7, 2, 0, 0, 0, 0, 0) ::
  (20, false, .lconst 0, 1, 0, 0, 0, 0, jL 0) ::
  (21, false, .lcmp, 1, 0, 0, 0, 0, 0) ::
  (22, false, .ifCond .eq 67, 3, 51, 0, 0, 0, 0) ::
  (25, false, .lload 5, 2, 0, 0, 0, 0, 0) ::
  (27, false, .lload 7, 2, 0, 0, 0, 0, 0) ::
  (29, false, .ldiv, 1, 0, 0, 0, 0, 0) ::
  (30, false, .lstore 17, 2, 0, 0, 0, 0, 0) ::
  (32, true, .lload 5, 2, 0, 0, 0, 0, 0) ::
  (34, false, .lload 17, 2, 0, 0, 0, 0, 0) ::
  (36, false, .lload 7, 2, 0, 0, 0, 0, 0) ::
  (38, false, .lmul, 1, 0, 0, 0, 0, 0) ::
  cl_81_1
def cd_81 : List mj_E := cl_81_0
def cx_81 : mj_X := (0, [], [])
theorem tb_81 : mj_tab (mj_mt 81) cx_81 cd_81 mj_mh [(0, 0, 0), (0, 0, 0), (0, 0, 0), (0, 0, 0), (0, 0, 0), (0, 0, 0), (0, 0, 0), (0, 0, 0), (0, 0, 0), (0, 0, 0), (0, 0, 0), (0, 0, 0), (0, 0, 0), (0, 0, 0), (0, 0, 0), (0, 0, 0), (0, 0, 0), (0, 0, 0), (0, 0, 0), (0, 0, 0), (0, 0, 0), (0, 0, 0), (0, 0, 0), (0, 0, 0), (0, 0, 0), (0, 0, 0), (0, 0, 0), (0, 0, 0), (0, 0, 0), (0, 0, 0), (0, 0, 0), (0, 0, 0), (0, 0, 0), (0, 0, 0), (0, 0, 0), (0, 0, 0), (0, 0, 0), (0, 0, 0), (0, 0, 0), (0, 0, 0), (0, 0, 0), (0, 0, 0), (0, 0, 0), (0, 0, 0), (0, 0, 0), (0, 0, 0), (0, 0, 0), (0, 0, 0), (0, 0, 0), (0, 0, 0), (0, 0, 0), (0, 0, 0), (0, 0, 0), (0, 0, 0), (0, 0, 0), (0, 0, 0), (0, 0, 0), (0, 0, 0), (0, 0, 0), (0, 0, 0), (0, 0, 0), (0, 0, 0), (0, 0, 0), (0, 0, 0), (0, 0, 0), (0, 0, 0), (2036, 0, 0), (0, 0, 0), (0, 0, 0), (0, 0, 0), (0, 0, 0), (0, 0, 0), (0, 0, 0), (0, 0, 0), (2038, 0, 0), (0, 0, 0), (0, 0, 0), (0, 0, 0), (0, 0, 0), (0, 0, 0), (0, 0, 0), (0, 0, 0), (2040, 0, 0), (0, 0, 0)] = true := mj_tab_f (by decide +kernel)
theorem ct_81 (G : mj_G) {h : mj_H} {c : Nat} (hc : hK h c = 20) {x y : Int} (hx : -4611686018427387904 < x ∧ x < 4611686018427387904) (hy : -4611686018427387904 < y ∧ y < 4611686018427387904) : mj_Ct G (mj_mt 81) 0 0 [.ref c, .long (jL x), .long (jL y)] h (fun o h' => o = .returned none ∧ ∃ u v : Int, isCm h' c (Int.gcd x y) u v ∧ u * x + v * y = Int.gcd x y ∧ u.natAbs ≤ max 1 y.natAbs ∧ v.natAbs ≤ max 1 x.natAbs ∧ Fr (fun a => a = c) noT h h') := by
  refine mj_Ct_of mj_ok tb_81 rfl rfl (Nat.le_of_ble_eq_true rfl) (fun Run hR => ?_)
  have fin : ∀ (a p r : Int) (bL qL sL : Int64) (u1 u2 u3 u4 u5 u6 u7 u8 : Option Value), a.natAbs = Int.gcd x y → a = p * x + r * y → -4611686018427387904 < a → a < 4611686018427387904 → p.natAbs ≤ max 1 y.natAbs → r.natAbs ≤ max 1 x.natAbs → Run 89 (l81 c (jL x) (jL y) (jL a) bL (jL p) qL (jL r) sL u1 u2 u3 u4 u5 u6 u7 u8) [] h (0, 0) := by
    intro a p r bL qL sL u1 u2 u3 u4 u5 u6 u7 u8 hg hl ha1 ha2 hp hr'
    -- the sign is put on all three
    have last : ∀ (z : Int) (zI : Int32), (z = 1 ∧ a < 0 ∨ z = 0 ∧ 0 ≤ a) → zI = jI z → ∀ (v1 v2 : Option Value), Run 103 (l81 c (jL x) (jL y) (jL a) bL (jL p) qL (jL r) sL (some (.int zI)) u2 u3 u4 u5 u6 u7 u8) [] h (0, 0) := by
      rintro z zI hz rfl v1 v2
      have big : ∀ (e : Int), (e = 1 ∧ 0 ≤ a ∨ e = -1 ∧ a < 0) → e * a = Int.gcd x y := by
        intro e he
        rcases he with ⟨e1, e2⟩ | ⟨e1, e2⟩ <;> subst e1 <;> omega
      have done : ∀ (e : Int), (e = 1 ∧ 0 ≤ a ∨ e = -1 ∧ a < 0) → ∃ u v : Int, isCm (sJ (sJ (sJ h c 0 (jL (e * a))) c 1 (jL (e * p))) c 2 (jL (e * r))) c (Int.gcd x y) u v ∧ u * x + v * y = Int.gcd x y ∧ u.natAbs ≤ max 1 y.natAbs ∧ v.natAbs ≤ max 1 x.natAbs ∧ Fr (fun a => a = c) noT h (sJ (sJ (sJ h c 0 (jL (e * a))) c 1 (jL (e * p))) c 2 (jL (e * r))) := by
        intro e he
        have hb := big e he
        refine ⟨e * p, e * r, ⟨hc, ?_, ?_, sJ_at _ _ _ _⟩, ?_, ?_, ?_, (((Fr.refl (fun a => a = c) noT h).sJ rfl _ _).sJ rfl _ _).sJ rfl _ _⟩
        · rw [← hb]
          exact (sJ_k _ _ (by decide) _).trans ((sJ_k _ _ (by decide) _).trans (sJ_at _ _ _ _))
        · exact (sJ_k _ _ (by decide) _).trans (sJ_at _ _ _ _)
        · rw [← hb, hl]
          grind
        · rcases he with ⟨e1, -⟩ | ⟨e1, -⟩ <;> subst e1 <;> omega
        · rcases he with ⟨e1, -⟩ | ⟨e1, -⟩ <;> subst e1 <;> omega
      rcases hz with ⟨rfl, hz⟩ | ⟨rfl, hz⟩
      · have r137 : Run 137 (l81 c (jL x) (jL y) (jL a) bL (jL p) qL (jL r) sL (some (.int (jI 1))) u2 u3 u4 u5 u6 u7 u8) [] (sJ (sJ h c 0 (jL (-1 * a))) c 1 (jL (-1 * p))) (0, 0) := by
          refine hR 60 75 _ _ _ _ _ _ rfl ?_
          refine ⟨fun c1 => absurd c1 (by decide), fun c1 => ⟨hc, rfl, ?_⟩⟩
          have := done (-1) (Or.inr ⟨rfl, hz⟩)
          rw [show jL (-1 * r) = -jL r by rw [jL_neg]; congr 1; omega] at this
          exact this
        have r120 : Run 120 (l81 c (jL x) (jL y) (jL a) bL (jL p) qL (jL r) sL (some (.int (jI 1))) u2 u3 u4 u5 u6 u7 u8) [] (sJ h c 0 (jL (-1 * a))) (0, 0) := by
          refine hR 60 67 _ _ _ _ _ _ rfl ?_
          refine ⟨fun c1 => absurd c1 (by decide), fun c1 => ⟨hc, ?_⟩⟩
          rw [show jL (-1 * p) = -jL p by rw [jL_neg]; congr 1; omega] at r137
          exact r137
        refine hR 60 59 _ _ _ _ _ _ rfl ?_
        refine ⟨fun c1 => absurd c1 (by decide), fun c1 => ⟨hc, ?_⟩⟩
        rw [show jL (-1 * a) = -jL a by rw [jL_neg]; congr 1; omega] at r120
        exact r120
      · have r137 : Run 137 (l81 c (jL x) (jL y) (jL a) bL (jL p) qL (jL r) sL (some (.int (jI 0))) u2 u3 u4 u5 u6 u7 u8) [] (sJ (sJ h c 0 (jL (1 * a))) c 1 (jL (1 * p))) (0, 0) := by
          refine hR 60 75 _ _ _ _ _ _ rfl ?_
          refine ⟨fun c1 => ⟨hc, rfl, ?_⟩, fun c1 => absurd rfl c1⟩
          have := done 1 (Or.inl ⟨rfl, hz⟩)
          rw [Int.one_mul r] at this
          exact this
        have r120 : Run 120 (l81 c (jL x) (jL y) (jL a) bL (jL p) qL (jL r) sL (some (.int (jI 0))) u2 u3 u4 u5 u6 u7 u8) [] (sJ h c 0 (jL (1 * a))) (0, 0) := by
          refine hR 60 67 _ _ _ _ _ _ rfl ?_
          refine ⟨fun c1 => ⟨hc, ?_⟩, fun c1 => absurd rfl c1⟩
          rw [Int.one_mul p] at r137
          exact r137
        refine hR 60 59 _ _ _ _ _ _ rfl ?_
        refine ⟨fun c1 => ⟨hc, ?_⟩, fun c1 => absurd rfl c1⟩
        rw [Int.one_mul a] at r120
        exact r120
    refine hR 60 51 _ _ _ _ _ _ rfl ?_
    refine ⟨fun c1 => ?_, fun c1 => ?_⟩
    · simp (disch := omega) only [mj_lcm, jI_lt, jI_le, jI_eq, jL_lt, jL_le, jL_eq, jI_lt0, jI_0le, jI_0lt, jI_le0, jI_eq0, jL_eq0, jI_L, jI_add, jI_sub, jI_mul, jI_neg, jL_add, jL_sub, jL_mul, jL_neg, jL_I, jI_div, jI_mod, jL_div, jL_mod] at c1
      exact last 0 _ (Or.inr ⟨rfl, c1⟩) rfl none none
    · simp (disch := omega) only [mj_lcm, jI_lt, jI_le, jI_eq, jL_lt, jL_le, jL_eq, jI_lt0, jI_0le, jI_0lt, jI_le0, jI_eq0, jL_eq0, jI_L, jI_add, jI_sub, jI_mul, jI_neg, jL_add, jL_sub, jL_mul, jL_neg, jL_I, jI_div, jI_mod, jL_div, jL_mod] at c1
      exact last 1 _ (Or.inl ⟨rfl, by omega⟩) rfl none none
  have loop : ∀ (n : Nat) (a b p q r s : Int) (aL bL pL qL rL sL : Int64) (u1 u2 u3 u4 u5 u6 u7 u8 : Option Value), b.natAbs = n → Int.gcd a b = Int.gcd x y → a = p * x + r * y → b = q * x + s * y → q.natAbs * a.natAbs + p.natAbs * b.natAbs ≤ y.natAbs → s.natAbs * a.natAbs + r.natAbs * b.natAbs ≤ x.natAbs → p.natAbs ≤ max 1 y.natAbs → q.natAbs ≤ max 1 y.natAbs → r.natAbs ≤ max 1 x.natAbs → s.natAbs ≤ max 1 x.natAbs → (-4611686018427387904 < a ∧ a < 4611686018427387904) → (-4611686018427387904 < b ∧ b < 4611686018427387904) → aL = jL a → bL = jL b → pL = jL p → qL = jL q → rL = jL r → sL = jL s → Run 18 (l81 c (jL x) (jL y) aL bL pL qL rL sL u1 u2 u3 u4 u5 u6 u7 u8) [] h (0, 0) := by
    intro n
    induction n using Nat.strongRecOn with
    | _ n ih =>
      rintro a b p q r s aL bL pL qL rL sL u1 u2 u3 u4 u5 u6 u7 u8 hn hg ha hb i1 i2 p1 p2 p3 p4 ab bb rfl rfl rfl rfl rfl rfl
      refine hR 60 12 _ _ _ _ _ _ rfl ?_
      refine ⟨fun c1 => ?_, fun c1 => ⟨?_, ?_⟩⟩
      · simp (disch := omega) only [mj_lcm, jI_lt, jI_le, jI_eq, jL_lt, jL_le, jL_eq, jI_lt0, jI_0le, jI_0lt, jI_le0, jI_eq0, jL_eq0, jI_L, jI_add, jI_sub, jI_mul, jI_neg, jL_add, jL_sub, jL_mul, jL_neg, jL_I, jI_div, jI_mod, jL_div, jL_mod] at c1
        subst c1
        rw [Int.gcd_zero_right] at hg
        exact fin a p r _ _ _ _ _ _ _ _ _ _ _ hg ha ab.1 ab.2 p1 p3
      · simp (disch := omega) only [mj_lcm, jI_lt, jI_le, jI_eq, jL_lt, jL_le, jL_eq, jI_lt0, jI_0le, jI_0lt, jI_le0, jI_eq0, jL_eq0, jI_L, jI_add, jI_sub, jI_mul, jI_neg, jL_add, jL_sub, jL_mul, jL_neg, jL_I, jI_div, jI_mod, jL_div, jL_mod] at c1 ⊢
        exact c1
      · simp (disch := omega) only [mj_lcm, jI_lt, jI_le, jI_eq, jL_lt, jL_le, jL_eq, jI_lt0, jI_0le, jI_0lt, jI_le0, jI_eq0, jL_eq0, jI_L, jI_add, jI_sub, jI_mul, jI_neg, jL_add, jL_sub, jL_mul, jL_neg, jL_I, jI_div, jI_mod, jL_div, jL_mod] at c1
        have hta := tdiv_abs a b
        have hgt := gcd_tstep a b
        have hk : jL a / jL b = jL (a.tdiv b) := jL_div (by omega) (by omega) (by omega) (by omega)
        have htl := tdiv_lt a c1
        generalize a.tdiv b = k at hta hgt hk htl
        have ht : a = k * b + (a - k * b) := by omega
        have j1 := euc_step ht hta i1
        have j2 := euc_step ht hta i2
        have hq' : (p - k * q).natAbs ≤ y.natAbs := by
          have : (p - k * q).natAbs * 1 ≤ (p - k * q).natAbs * b.natAbs := Nat.mul_le_mul_left _ (by omega)
          omega
        have hs' : (r - k * s).natAbs ≤ x.natAbs := by
          have : (r - k * s).natAbs * 1 ≤ (r - k * s).natAbs * b.natAbs := Nat.mul_le_mul_left _ (by omega)
          omega
        have next : ∀ (v1 v2 v3 v4 v5 v6 v7 v8 : Option Value), Run 18 (l81 c (jL x) (jL y) (jL b) (jL (a - k * b)) (jL q) (jL (p - k * q)) (jL s) (jL (r - k * s)) v1 v2 v3 v4 v5 v6 v7 v8) [] h (0, 0) := by
          intro v1 v2 v3 v4 v5 v6 v7 v8
          refine ih (a - k * b).natAbs (hn ▸ htl) b (a - k * b) q (p - k * q) s (r - k * s) _ _ _ _ _ _ _ _ _ _ _ _ _ _ rfl (hgt.trans hg) hb ?_ j1 j2 p2 (Nat.le_trans hq' (Nat.le_max_right _ _)) p4 (Nat.le_trans hs' (Nat.le_max_right _ _)) bb (bd_less htl bb) rfl rfl rfl rfl rfl rfl
          rw [ha, hb]
          grind
        have r78 : ∀ (vL : Int64), vL = jL (r - k * s) → Run 78 (l81 c (jL x) (jL y) (jL b) (jL (a - k * b)) (jL q) (jL (p - k * q)) (jL r) (jL s) (some (.long (jL k))) none (some (.long (jL (a - k * b)))) none (some (.long (jL (p - k * q)))) none (some (.long vL)) none) [] h (0, 0) := by
          rintro vL rfl
          refine hR 60 46 _ _ _ _ _ _ rfl ?_
          exact next _ _ _ _ _ _ _ _
        have r68 : ∀ (v7 v8 : Option Value), Run 68 (l81 c (jL x) (jL y) (jL b) (jL (a - k * b)) (jL q) (jL (p - k * q)) (jL r) (jL s) (some (.long (jL k))) none (some (.long (jL (a - k * b)))) none (some (.long (jL (p - k * q)))) none v7 v8) [] h (0, 0) := by
          intro v7 v8
          refine hR 60 40 _ _ _ _ _ _ rfl ?_
          exact r78 _ (by rw [jL_mul, jL_sub])
        have r60 : ∀ (vL : Int64) (v7 v8 : Option Value), vL = jL (p - k * q) → Run 60 (l81 c (jL x) (jL y) (jL b) (jL (a - k * b)) (jL p) (jL q) (jL r) (jL s) (some (.long (jL k))) none (some (.long (jL (a - k * b)))) none (some (.long vL)) none v7 v8) [] h (0, 0) := by
          rintro vL v7 v8 rfl
          refine hR 60 36 _ _ _ _ _ _ rfl ?_
          exact r68 _ _
        have r50 : ∀ (v5 v6 v7 v8 : Option Value), Run 50 (l81 c (jL x) (jL y) (jL b) (jL (a - k * b)) (jL p) (jL q) (jL r) (jL s) (some (.long (jL k))) none (some (.long (jL (a - k * b)))) none v5 v6 v7 v8) [] h (0, 0) := by
          intro v5 v6 v7 v8
          refine hR 60 30 _ _ _ _ _ _ rfl ?_
          exact r60 _ _ _ (by rw [jL_mul, jL_sub])
        have r42 : ∀ (vL : Int64) (v5 v6 v7 v8 : Option Value), vL = jL (a - k * b) → Run 42 (l81 c (jL x) (jL y) (jL a) (jL b) (jL p) (jL q) (jL r) (jL s) (some (.long (jL k))) none (some (.long vL)) none v5 v6 v7 v8) [] h (0, 0) := by
          rintro vL v5 v6 v7 v8 rfl
          refine hR 60 26 _ _ _ _ _ _ rfl ?_
          exact r50 _ _ _ _
        have r32 : ∀ (vL : Int64) (v3 v4 v5 v6 v7 v8 : Option Value), vL = jL k → Run 32 (l81 c (jL x) (jL y) (jL a) (jL b) (jL p) (jL q) (jL r) (jL s) (some (.long vL)) none v3 v4 v5 v6 v7 v8) [] h (0, 0) := by
          rintro vL v3 v4 v5 v6 v7 v8 rfl
          refine hR 60 20 _ _ _ _ _ _ rfl ?_
          exact r42 _ _ _ _ _ (by rw [jL_mul, jL_sub])
        exact r32 _ _ _ _ _ _ _ hk
  have r12 : ∀ (u1 u2 u3 u4 u5 u6 u7 u8 v1 v2 v3 v4 : Option Value), Run 12 [some (.ref c), some (.long (jL x)), none, some (.long (jL y)), none, some (.long (jL x)), none, some (.long (jL y)), none, some (.long (jL 1)), none, some (.long (jL 0)), none, v1, v2, v3, v4, u1, u2, u3, u4, u5, u6, u7, u8] [] h (0, 0) := by
    intro u1 u2 u3 u4 u5 u6 u7 u8 v1 v2 v3 v4
    refine hR 60 8 _ _ _ _ _ _ rfl ?_
    refine loop y.natAbs x y 1 0 0 1 _ _ _ _ _ _ _ _ _ _ _ _ _ _ rfl rfl (by omega) (by omega) ?_ ?_ ?_ ?_ ?_ ?_ hx hy rfl rfl rfl rfl rfl rfl
    · show 0 * x.natAbs + 1 * y.natAbs ≤ y.natAbs
      omega
    · show 1 * x.natAbs + 0 * y.natAbs ≤ x.natAbs
      omega
    · show 1 ≤ _
      omega
    · show 0 ≤ _
      omega
    · show 0 ≤ _
      omega
    · show 1 ≤ _
      omega
  have r6 : ∀ (u1 u2 u3 u4 u5 u6 u7 u8 v1 v2 v3 v4 v5 v6 v7 v8 : Option Value), Run 6 [some (.ref c), some (.long (jL x)), none, some (.long (jL y)), none, some (.long (jL x)), none, some (.long (jL y)), none, v5, v6, v7, v8, v1, v2, v3, v4, u1, u2, u3, u4, u5, u6, u7, u8] [] h (0, 0) := by
    intro u1 u2 u3 u4 u5 u6 u7 u8 v1 v2 v3 v4 v5 v6 v7 v8
    refine hR 60 4 _ _ _ _ _ _ rfl ?_
    exact r12 _ _ _ _ _ _ _ _ _ _ _ _
  refine hR 60 0 _ _ _ _ _ _ rfl ?_
  exact r6 _ _ _ _ _ _ _ _ _ _ _ _ _ _ _ _
