/-! contracts: odd primes of a discriminant, and squares modulo them -/
theorem prodL_app (x : List Nat) (p : Nat) : prodL (x ++ [p]) = prodL x * p := by
  induction x with
  | nil => show p * 1 = 1 * p; omega
  | cons q t ih =>
    show q * prodL (t ++ [p]) = q * prodL t * p
    rw [ih, Nat.mul_assoc]
def ofN : Nat → Nat
  | 0 => 1
  | k + 1 => ofN k * (2 * k + 3)
theorem ofN_pos : ∀ k, 0 < ofN k
  | 0 => by decide
  | k + 1 => Nat.mul_pos (ofN_pos k) (by omega)
theorem ofN_mono : ∀ (j k : Nat), ofN k ≤ ofN (k + j)
  | 0, k => Nat.le_refl _
  | j + 1, k => by
    have h := ofN_mono j k
    show ofN k ≤ ofN (k + j) * (2 * (k + j) + 3)
    have : ofN (k + j) * 1 ≤ ofN (k + j) * (2 * (k + j) + 3) := Nat.mul_le_mul_left _ (by omega)
    omega
/-- the odd primes of a number, rising -/
def isOP (D : Nat) (ps : List Nat) : Prop := (∀ p, p ∈ ps → Pr p ∧ p % 2 = 1 ∧ p ∣ D) ∧ (∀ i j p q : Nat, i < j → ps[i]? = some p → ps[j]? = some q → p < q) ∧ ∀ p, Pr p → p % 2 = 1 → p ∣ D → p ∈ ps
def isCh (h : mj_H) (ps : List Nat) : Prop := hI h 67 0 = jI ps.length ∧ ps.length ≤ 6 ∧ ∀ i p : Nat, ps[i]? = some p → hI h 68 i = jI p
theorem pr_of_least {l q : Nat} (hl : 0 < l) (h2 : 2 ≤ q) (hmin : ∀ p, Pr p → p ∣ l → q ≤ p) (hd : q ∣ l) : Pr q := by
  refine ⟨h2, fun m' hm' => ?_⟩
  have m0 : m' ≠ 0 := fun z => by
    rw [z] at hm'
    have := Nat.eq_zero_of_zero_dvd hm'
    omega
  rcases Nat.lt_or_ge m' 2 with z | z
  · exact Or.inl (by omega)
  · obtain ⟨p, p1, p2⟩ := ex_pr m' m' (Nat.le_refl _) z
    have h1 := hmin p p1 (Nat.dvd_trans p2 (Nat.dvd_trans hm' hd))
    have h3 := Nat.le_of_dvd (by omega) p2
    have h4 := Nat.le_of_dvd (by omega) hm'
    exact Or.inr (by omega)
theorem pr_of_sq {l q : Nat} (h1 : 1 < l) (hmin : ∀ p, Pr p → p ∣ l → q ≤ p) (hq : l < q * q) : Pr l := by
  refine ⟨h1, fun m hm => ?_⟩
  obtain ⟨r, hr⟩ := hm
  rcases Nat.lt_or_ge m 2 with z | z
  · have : m ≠ 0 := fun e => by
      rw [e, Nat.zero_mul] at hr
      omega
    exact Or.inl (by omega)
  · rcases Nat.lt_or_ge r 2 with y | y
    · have r1 : r = 1 := by
        have : r ≠ 0 := fun e => by
          rw [e, Nat.mul_zero] at hr
          omega
        omega
      rw [r1, Nat.mul_one] at hr
      exact Or.inr hr.symm
    · exfalso
      obtain ⟨p, p1, p2⟩ := ex_pr m m (Nat.le_refl _) z
      obtain ⟨p', p3, p4⟩ := ex_pr r r (Nat.le_refl _) y
      have a1 := hmin p p1 (Nat.dvd_trans p2 ⟨r, hr⟩)
      have a2 := hmin p' p3 (Nat.dvd_trans p4 ⟨m, by rw [hr, Nat.mul_comm]⟩)
      have a3 := Nat.le_of_dvd (by omega) p2
      have a4 := Nat.le_of_dvd (by omega) p4
      have : q * q ≤ m * r := Nat.mul_le_mul (by omega) (by omega)
      omega
/-- FormHouse$Characters.begin(J)V; cuts at [10, 29, 32, 54, 67, 78, 88, 107, 113] -/
def cl_92_2 : List mj_E := (78, true, .aload_n 0, 1, 0, 0, 0, 0, 0) ::
  (79, false, .dup, 1, 0, 0, 0, 0, 0) ::
  (80, false, .getfield 15, 3, 11, 0, 0, 0, 0) ::
  (83, false, .iconst 1, 1, 0, 0, 0, jI 1, 0) ::
  (84, false, .iadd, 1, 0, 0, 0, 0, 0) ::
  (85, false, .putfield 15, 3, 11, 0, 0, 0, 0) ::
  (88, true, .lload_n 3, 1, 0, 0, 0, 0, 0) ::
  (89, false, .iload 5, 2, 0, 0, 0, 0, 0) ::
  (91, false, .i2l, 1, 0, 0, 0, 0, 0) ::
  (92, false, .lrem, 1, 0, 0, 0, 0, 0) ::
  (93, false, .lconst 0, 1, 0, 0, 0, 0, jL 0) ::
  (94, false, .lcmp, 1, 0, 0, 0, 0, 0) ::
  (95, false, .ifCond .ne 12, 3, 67, 0, 0, 0, 0) ::
  (98, false, .lload_n 3, 1, 0, 0, 0, 0, 0) ::
  (99, false, .iload 5, 2, 0, 0, 0, 0, 0) ::
  (101, false, .i2l, 1, 0, 0, 0, 0, 0) ::
  (102, false, .ldiv, 1, 0, 0, 0, 0, 0) ::
  (103, false, .lstore_n 3, 1, 0, 0, 0, 0, 0) ::
  (104, false, .goto (-16), 3, 54, 0, 0, 0, 0) ::
  (107, true, .iinc 5 2, 3, 0, 0, 0, jI 2, 0) ::
  (110, false, .goto (-78), 3, 19, 0, 0, 0, 0) ::
  (113, true, .return_, 1, 0, 0, 0, 0, 0) ::
  []
def cl_92_1 : List mj_E := (40, false, .i2l, 1, 0, 0, 0, 0, 0) ::
  (41, false, .iload 5, 2, 0, 0, 0, 0, 0) ::
  (43, false, .i2l, 1, 0, 0, 0, 0, 0) ::
  (44, false, .lmul, 1, 0, 0, 0, 0, 0) ::
  (45, false, .lload_n 3, 1, 0, 0, 0, 0, 0) ::
  (46, false, .lcmp, 1, 0, 0, 0, 0, 0) ::
  (47, false, .ifCond .le 7, 3, 34, 0, 0, 0, 0) ::
  (50, false, .lload_n 3, 1, 0, 0, 0, 0, 0) ::
  (51, false, .l2i, 1, 0, 0, 0, 0, 0) ::
  (52, false, .istore 5, 2, 0, 0, 0, 0, 0) ::
  (54, true, .lload_n 3, 1, 0, 0, 0, 0, 0) ::
  (55, false, .iload 5, 2, 0, 0, 0, 0, 0) ::
  (57, false, .i2l, 1, 0, 0, 0, 0, 0) ::
  (58, false, .lrem, 1, 0, 0, 0, 0, 0) ::
  (59, false, .lconst 0, 1, 0, 0, 0, 0, jL 0) ::
  (60, false, .lcmp, 1, 0, 0, 0, 0, 0) ::
  (61, false, .ifCond .eq 6, 3, 42, 0, 0, 0, 0) ::
  (64, false, .goto 43, 3, 67, 0, 0, 0, 0) ::
  (67, true, .aload_n 0, 1, 0, 0, 0, 0, 0) ::
  (68, false, .getfield 9, 3, 11, 1, 2, 0, 0) ::
  (71, false, .aload_n 0, 1, 0, 0, 0, 0, 0) ::
  (72, false, .getfield 15, 3, 11, 0, 0, 0, 0) ::
  (75, false, .iload 5, 2, 0, 0, 0, 0, 0) ::
  (77, false, .iastore, 1, 0, 0, 0, 0, 0) ::
  cl_92_2
def cl_92_0 : List mj_E := (0, false, .aload_n 0, 1, 0, 0, 0, 0, 0) ::
  (1, false, .iconst 0, 1, 0, 0, 0, jI 0, 0) ::
  (2, false, .putfield 15, 3, 11, 0, 0, 0, 0) ::
  (5, false, .lload_n 1, 1, 0, 0, 0, 0, 0) ::
  (6, false, .invokestatic 19, 3, 28, 1, 0, 0, 0) ::
  (9, false, .lstore_n 3, 1, 0, 0, 0, 0, 0) ::
  (10, true, .lload_n 3, 1, 0, 0, 0, 0, 0) ::
  (11, false, .ldc2_w 25, 3, 0, 0, 0, 0, jL 2) ::
  (14, false, .lrem, 1, 0, 0, 0, 0, 0) ::
  (15, false, .lconst 0, 1, 0, 0, 0, 0, jL 0) ::
  (16, false, .lcmp, 1, 0, 0, 0, 0, 0) ::
  (17, false, .ifCond .ne 12, 3, 17, 0, 0, 0, 0) ::
  (20, false, .lload_n 3, 1, 0, 0, 0, 0, 0) ::
  (21, false, .ldc2_w 25, 3, 0, 0, 0, 0, jL 2) ::
  (24, false, .ldiv, 1, 0, 0, 0, 0, 0) ::
  (25, false, .lstore_n 3, 1, 0, 0, 0, 0, 0) ::
  (26, false, .goto (-16), 3, 6, 0, 0, 0, 0) ::
  (29, true, .iconst 3, 1, 0, 0, 0, jI 3, 0) ::
  (30, false, .istore 5, 2, 0, 0, 0, 0, 0) ::
  (32, true, .lload_n 3, 1, 0, 0, 0, 0, 0) ::
  (33, false, .lconst 1, 1, 0, 0, 0, 0, jL 1) ::
  (34, false, .lcmp, 1, 0, 0, 0, 0, 0) ::
  (35, false, .ifCond .le 78, 3, 69, 0, 0, 0, 0) ::
  (38, false, .iload 5, 2, 0, 0, 0, 0, 0) ::
  cl_92_1
def cd_92 : List mj_E := cl_92_0
def cx_92 : mj_X := (0, [], [])
theorem tb_92 : mj_tab (mj_mt 92) cx_92 cd_92 mj_mh [(0, 0, 0), (0, 0, 0), (2129, 0, 0), (0, 0, 0), (4178, 0, 0), (0, 0, 0), (0, 0, 0), (4179, 0, 0), (0, 0, 0), (0, 0, 0), (0, 0, 0), (0, 0, 0), (0, 0, 0), (4179, 0, 0), (0, 0, 0), (0, 0, 0), (0, 0, 0), (0, 0, 0), (0, 0, 0), (0, 0, 0), (0, 0, 0), (0, 0, 0), (0, 0, 0), (0, 0, 0), (0, 0, 0), (0, 0, 0), (0, 0, 0), (0, 0, 0), (0, 0, 0), (0, 0, 0), (0, 0, 0), (0, 0, 0), (0, 0, 0), (0, 0, 0), (0, 0, 0), (0, 0, 0), (0, 0, 0), (0, 0, 0), (0, 0, 0), (0, 0, 0), (0, 0, 0), (0, 0, 0), (0, 0, 0), (2131, 0, 0), (0, 0, 0), (2129, 0, 0), (0, 0, 0), (0, 0, 0), (0, 0, 0), (0, 0, 0), (2129, 0, 0), (0, 0, 0), (0, 0, 0), (2129, 0, 0), (0, 0, 0), (0, 0, 0), (0, 0, 0), (0, 0, 0), (0, 0, 0), (0, 0, 0), (0, 0, 0), (0, 0, 0), (0, 0, 0), (0, 0, 0), (0, 0, 0), (0, 0, 0), (0, 0, 0), (0, 0, 0), (0, 0, 0), (0, 0, 0)] = true := mj_tab_f (by decide +kernel)
theorem ct_92 (G : mj_G) {h : mj_H} (L : isLay h) {d : Int} (hd : -1048576 ≤ d ∧ d ≤ 1048576 ∧ d ≠ 0) : mj_Ct G (mj_mt 92) 0 0 [.ref 67, .long (jL d)] h (fun o h' => o = .returned none ∧ (∃ ps, isOP d.natAbs ps ∧ isCh h' ps) ∧ Fr (fun a => a = 67 ∨ a = 68) noT h h') := by
  generalize hD : d.natAbs = D
  have hD0 : 0 < D := by omega
  have hD1 : D ≤ 1048576 := by omega
  refine mj_Ct_of mj_ok tb_92 rfl rfl (Nat.le_of_ble_eq_true rfl) (fun Run hR => ?_)
  -- what is known on the way: l is left, p is tried, ps are found
  let Inv : Nat → Nat → List Nat → Prop := fun l p ps => 0 < l ∧ l % 2 = 1 ∧ l ∣ D ∧ p % 2 = 1 ∧ 2 * ps.length + 3 ≤ p ∧ ofN ps.length ≤ prodL ps ∧ prodL ps * l ≤ D ∧ (∀ q, Pr q → q ∣ l → p ≤ q) ∧ (∀ q, q ∈ ps → Pr q ∧ q % 2 = 1 ∧ q ∣ D ∧ q < p) ∧ (∀ i j q r : Nat, i < j → ps[i]? = some q → ps[j]? = some r → q < r) ∧ (∀ q, Pr q → q % 2 = 1 → q ∣ D → q ∈ ps ∨ q ∣ l)
  have r113 : ∀ (p : Nat) (ps : List Nat) (h' : mj_H) (x3 x4 x5 : Option Value), Inv 1 p ps → isCh h' ps → Fr (fun a => a = 67 ∨ a = 68) noT h h' → Run 113 [some (.ref 67), some (.long (jL d)), none, x3, x4, x5] [] h' (0, 0) := by
    rintro p ps h' x3 x4 x5 ⟨i1, i2, i3, i4, i5, i6, i7, i8, i9, i10, i11⟩ hc F
    refine hR 60 69 _ _ _ _ _ _ rfl ?_
    refine ⟨rfl, ⟨ps, ⟨fun q hq => ⟨(i9 q hq).1, (i9 q hq).2.1, (i9 q hq).2.2.1⟩, i10, fun q h1 h2 h3 => ?_⟩, hc⟩, F⟩
    rcases i11 q h1 h2 h3 with z | z
    · exact z
    · have := Nat.le_of_dvd (by decide) z
      have := h1.1
      omega
  have odd_ge : ∀ {l p : Nat}, l % 2 = 1 → p % 2 = 1 → (∀ q, Pr q → q ∣ l → p + 1 ≤ q) → ∀ q, Pr q → q ∣ l → p + 2 ≤ q := by
    intro l p hl hp hm q hq hqd
    have h1 := hm q hq hqd
    have h2 : q % 2 = 1 := by
      obtain ⟨r, hr⟩ := hqd
      rw [hr, Nat.mul_mod] at hl
      have : q % 2 = 0 ∨ q % 2 = 1 := by omega
      rcases this with z | z
      · rw [z, Nat.zero_mul, Nat.zero_mod] at hl
        omega
      · exact z
    omega
  have r32 : ∀ (t l p : Nat) (ps : List Nat) (lL : Int64) (pI : Int32) (h' : mj_H), D + 4 ≤ p + t → p ≤ D + 6 → Inv l p ps → isCh h' ps → Fr (fun a => a = 67 ∨ a = 68) noT h h' → lL = jL l → pI = jI p → Run 32 [some (.ref 67), some (.long (jL d)), none, some (.long lL), none, some (.int pI)] [] h' (0, 0) := by
    intro t
    induction t with
    | zero =>
      rintro l p ps lL pI h' ht hp6 hi hc F rfl rfl
      have hi' := hi
      obtain ⟨i1, i2, i3, i4, i5, i6, i7, i8, i9, i10, i11⟩ := hi'
      have hlD := Nat.le_of_dvd hD0 i3
      have hl1 : l = 1 := by
        rcases Nat.lt_or_ge 1 l with z | z
        · obtain ⟨q, q1, q2⟩ := ex_pr l l (Nat.le_refl _) z
          have := i8 q q1 q2
          have := Nat.le_of_dvd i1 q2
          omega
        · omega
      subst hl1
      refine hR 60 19 _ _ _ _ _ _ rfl ?_
      refine ⟨fun c => r113 p ps h' _ _ _ hi hc F, fun c => ?_⟩
      simp (disch := omega) only [mj_lcm, jI_lt, jI_le, jI_eq, jL_lt, jL_le, jL_eq, jI_lt0, jI_0le, jI_0lt, jI_le0, jI_eq0, jL_eq0, jI_L, jI_add, jI_sub, jI_mul, jI_neg, jL_add, jL_sub, jL_mul, jL_neg, jL_I, jI_div, jI_mod, jL_div, jL_mod] at c
      omega
    | succ t ih =>
      rintro l p ps lL pI h' ht hp6 hi hc F rfl rfl
      have hi' := hi
      obtain ⟨i1, i2, i3, i4, i5, i6, i7, i8, i9, i10, i11⟩ := hi'
      have hlD := Nat.le_of_dvd hD0 i3
      refine hR 60 19 _ _ _ _ _ _ rfl ?_
      refine ⟨fun c => ?_, fun c => ?_⟩
      · simp (disch := omega) only [mj_lcm, jI_lt, jI_le, jI_eq, jL_lt, jL_le, jL_eq, jI_lt0, jI_0le, jI_0lt, jI_le0, jI_eq0, jL_eq0, jI_L, jI_add, jI_sub, jI_mul, jI_neg, jL_add, jL_sub, jL_mul, jL_neg, jL_I, jI_div, jI_mod, jL_div, jL_mod] at c
        have hl1 : l = 1 := by omega
        subst hl1
        exact r113 p ps h' _ _ _ hi hc F
      · simp (disch := omega) only [mj_lcm, jI_lt, jI_le, jI_eq, jL_lt, jL_le, jL_eq, jI_lt0, jI_0le, jI_0lt, jI_le0, jI_eq0, jL_eq0, jI_L, jI_add, jI_sub, jI_mul, jI_neg, jL_add, jL_sub, jL_mul, jL_neg, jL_I, jI_div, jI_mod, jL_div, jL_mod] at c
        have hpl : p ≤ l := by
          obtain ⟨q, q1, q2⟩ := ex_pr l l (Nat.le_refl _) (by omega)
          have := i8 q q1 q2
          have := Nat.le_of_dvd i1 q2
          omega
        have r107 : ∀ (l' p' : Nat) (ps' : List Nat) (h2 : mj_H), p ≤ p' → p' ≤ D → Inv l' (p' + 2) ps' → isCh h2 ps' → Fr (fun a => a = 67 ∨ a = 68) noT h h2 → Run 107 [some (.ref 67), some (.long (jL d)), none, some (.long (jL l')), none, some (.int (jI p'))] [] h2 (0, 0) := by
          intro l' p' ps' h2 hp1 hp2 hi2 hc2 F2
          refine hR 60 67 _ _ _ _ _ _ rfl ?_
          exact ih l' (p' + 2) ps' _ _ h2 (by omega) (by omega) hi2 hc2 F2 rfl (jI_add _ _)
        -- the tried number, perhaps what is left
        have r54 : ∀ (p' : Nat) (pI : Int32), p ≤ p' → p' ≤ l → p' % 2 = 1 → (∀ q, Pr q → q ∣ l → p' ≤ q) → pI = jI p' → Run 54 [some (.ref 67), some (.long (jL d)), none, some (.long (jL l)), none, some (.int pI)] [] h' (0, 0) := by
          rintro p' pI hp1 hp2 hp3 hmin rfl
          have L0 := L.F F (fun _ z => z.elim)
          have em : jL (l : Int) % jL (p' : Int) = jL ((l % p' : Nat) : Int) := by
            rw [jL_mod (by omega) (by omega) (by omega) (by omega)]
            rfl
          have hml := Nat.mod_lt l (show 0 < p' by omega)
          refine hR 60 34 _ _ _ _ _ _ rfl ?_
          refine ⟨?_, ?_⟩
          · rw [jI_L (by omega) (by omega)]
            simp (disch := omega) only [mj_lcm, jI_lt, jI_le, jI_eq, jL_lt, jL_le, jL_eq, jI_lt0, jI_0le, jI_0lt, jI_le0, jI_eq0, jL_eq0, jI_L, jI_add, jI_sub, jI_mul, jI_neg, jL_add, jL_sub, jL_mul, jL_neg, jL_I, jI_div, jI_mod, jL_div, jL_mod]
            omega
          · rw [jI_L (by omega) (by omega), em]
            refine ⟨fun c2 => ?_, fun c2 => ?_⟩
            · simp (disch := omega) only [mj_lcm, jI_lt, jI_le, jI_eq, jL_lt, jL_le, jL_eq, jI_lt0, jI_0le, jI_0lt, jI_le0, jI_eq0, jL_eq0, jI_L, jI_add, jI_sub, jI_mul, jI_neg, jL_add, jL_sub, jL_mul, jL_neg, jL_I, jI_div, jI_mod, jL_div, jL_mod] at c2
              have hdv : p' ∣ l := Nat.dvd_of_mod_eq_zero (by omega)
              have hpp : Pr p' := pr_of_least i1 (by omega) hmin hdv
              have hpD : p' ∣ D := Nat.dvd_trans hdv i3
              have hprod : prodL ps * p' ≤ D := by
                have : prodL ps * p' ≤ prodL ps * l := Nat.mul_le_mul_left _ hp2
                omega
              have hlen : ps.length < 6 := by
                rcases Nat.lt_or_ge ps.length 6 with z | z
                · exact z
                · exfalso
                  have h1 := ofN_mono (ps.length - 6) 6
                  rw [show 6 + (ps.length - 6) = ps.length by omega] at h1
                  have h2 : ofN 6 * 15 ≤ prodL ps * p' := Nat.mul_le_mul (by omega) (by omega)
                  have h3 : ofN 6 = 135135 := by decide
                  omega
              -- what goes into it is taken out
              have r88 : ∀ (t2 l' : Nat) (lL : Int64) (h2 : mj_H), l' ≤ t2 → 0 < l' → l' % 2 = 1 → l' ∣ l → prodL ps * p' * l' ≤ D ∨ l' = l → (∀ q, Pr q → q ∣ l → q = p' ∨ q ∣ l') → isCh h2 (ps ++ [p']) → Fr (fun a => a = 67 ∨ a = 68) noT h h2 → lL = jL l' → Run 88 [some (.ref 67), some (.long (jL d)), none, some (.long lL), none, some (.int (jI p'))] [] h2 (0, 0) := by
                intro t2
                induction t2 with
                | zero => intro l' lL h2 ht2 hl0; omega
                | succ t2 ih2 =>
                  rintro l' lL h2 ht2 hl0 hl2 hll hpr hqs hc2 F2 rfl
                  have hl'D := Nat.le_of_dvd i1 hll
                  have em2 : jL (l' : Int) % jL (p' : Int) = jL ((l' % p' : Nat) : Int) := by
                    rw [jL_mod (by omega) (by omega) (by omega) (by omega)]
                    rfl
                  have hml2 := Nat.mod_lt l' (show 0 < p' by omega)
                  refine hR 60 54 _ _ _ _ _ _ rfl ?_
                  refine ⟨?_, ?_⟩
                  · rw [jI_L (by omega) (by omega)]
                    simp (disch := omega) only [mj_lcm, jI_lt, jI_le, jI_eq, jL_lt, jL_le, jL_eq, jI_lt0, jI_0le, jI_0lt, jI_le0, jI_eq0, jL_eq0, jI_L, jI_add, jI_sub, jI_mul, jI_neg, jL_add, jL_sub, jL_mul, jL_neg, jL_I, jI_div, jI_mod, jL_div, jL_mod]
                    omega
                  · rw [jI_L (by omega) (by omega), em2]
                    refine ⟨fun c3 => ⟨?_, ?_⟩, fun c3 => ?_⟩
                    · simp (disch := omega) only [mj_lcm, jI_lt, jI_le, jI_eq, jL_lt, jL_le, jL_eq, jI_lt0, jI_0le, jI_0lt, jI_le0, jI_eq0, jL_eq0, jI_L, jI_add, jI_sub, jI_mul, jI_neg, jL_add, jL_sub, jL_mul, jL_neg, jL_I, jI_div, jI_mod, jL_div, jL_mod]
                      omega
                    · simp (disch := omega) only [mj_lcm, jI_lt, jI_le, jI_eq, jL_lt, jL_le, jL_eq, jI_lt0, jI_0le, jI_0lt, jI_le0, jI_eq0, jL_eq0, jI_L, jI_add, jI_sub, jI_mul, jI_neg, jL_add, jL_sub, jL_mul, jL_neg, jL_I, jI_div, jI_mod, jL_div, jL_mod] at c3
                      have hdv2 : p' ∣ l' := Nat.dvd_of_mod_eq_zero (by omega)
                      obtain ⟨r, hr⟩ := hdv2
                      have er : jL (l' : Int) / jL (p' : Int) = jL (r : Int) := by
                        rw [jL_div (by omega) (by omega) (by omega) (by omega), Int.tdiv_eq_ediv_of_nonneg (by omega), hr, Int.natCast_mul, Int.mul_ediv_cancel_left _ (by omega)]
                      have hr0 : 0 < r := by
                        rcases Nat.eq_zero_or_pos r with z | z
                        · rw [z, Nat.mul_zero] at hr
                          omega
                        · exact z
                      have hrl : r ∣ l' := ⟨p', by rw [hr, Nat.mul_comm]⟩
                      have h2r : 2 * r ≤ p' * r := Nat.mul_le_mul_right _ (by omega)
                      have hr2 : r % 2 = 1 := by
                        rw [hr, Nat.mul_mod, hp3] at hl2
                        omega
                      refine ih2 r _ h2 (by omega) hr0 hr2 (Nat.dvd_trans hrl hll) (Or.inl ?_) (fun q hq hql => ?_) hc2 F2 (by rw [jI_L (by omega) (by omega)]; exact er)
                      · rcases hpr with z | z
                        · have : prodL ps * p' * r ≤ prodL ps * p' * l' := Nat.mul_le_mul_left _ (by omega)
                          omega
                        · rw [Nat.mul_assoc, ← hr, z]
                          exact i7
                      · rcases hqs q hq hql with z | z
                        · exact Or.inl z
                        · rw [hr] at z
                          rcases pr_mul hq z with y | y
                          · rcases hpp.2 q y with x | x
                            · have := hq.1
                              omega
                            · exact Or.inl x
                          · exact Or.inr y
                    · simp (disch := omega) only [mj_lcm, jI_lt, jI_le, jI_eq, jL_lt, jL_le, jL_eq, jI_lt0, jI_0le, jI_0lt, jI_le0, jI_eq0, jL_eq0, jI_L, jI_add, jI_sub, jI_mul, jI_neg, jL_add, jL_sub, jL_mul, jL_neg, jL_I, jI_div, jI_mod, jL_div, jL_mod] at c3
                      have hnd : ¬ p' ∣ l' := fun z => by
                        have := Nat.mod_eq_zero_of_dvd z
                        omega
                      have hne : l' ≠ l := fun z => hnd (z ▸ hdv)
                      have hpr' : prodL ps * p' * l' ≤ D := by
                        rcases hpr with z | z
                        · exact z
                        · exact absurd z hne
                      refine r107 l' p' (ps ++ [p']) h2 hp1 (by omega) ⟨hl0, hl2, Nat.dvd_trans hll i3, by omega, ?_, ?_, ?_, odd_ge hl2 hp3 (fun q hq hql => ?_), ?_, ?_, ?_⟩ hc2 F2
                      · simp only [List.length_append, List.length_cons, List.length_nil]
                        omega
                      · simp only [List.length_append, List.length_cons, List.length_nil]
                        rw [prodL_app]
                        exact Nat.mul_le_mul i6 (by omega)
                      · rw [prodL_app]
                        exact hpr'
                      · have h1 := hmin q hq (Nat.dvd_trans hql hll)
                        rcases Nat.lt_or_ge p' q with z | z
                        · exact z
                        · exfalso
                          have : q = p' := by omega
                          subst this
                          exact hnd hql
                      · intro q hq
                        rcases List.mem_append.1 hq with z | z
                        · obtain ⟨a1, a2, a3, a4⟩ := i9 q z
                          exact ⟨a1, a2, a3, by omega⟩
                        · have := List.mem_singleton.1 z
                          subst this
                          exact ⟨hpp, hp3, hpD, by omega⟩
                      · intro i j q r hij hq hr
                        have hjl := lt_of_some hr
                        simp only [List.length_append, List.length_cons, List.length_nil] at hjl
                        rw [List.getElem?_append_left (by omega)] at hq
                        by_cases hj : j = ps.length
                        · subst hj
                          rw [List.getElem?_append_right (Nat.le_refl _), Nat.sub_self] at hr
                          have h9 : some p' = some r := hr
                          have := Option.some.inj h9
                          have := (i9 q (List.mem_of_getElem? hq)).2.2.2
                          omega
                        · rw [List.getElem?_append_left (by omega)] at hr
                          exact i10 i j q r hij hq hr
                      · intro q h1 h2 h3
                        rcases i11 q h1 h2 h3 with z | z
                        · exact Or.inl (List.mem_append.2 (Or.inl z))
                        · rcases hqs q h1 z with y | y
                          · exact Or.inl (List.mem_append.2 (Or.inr (List.mem_singleton.2 y)))
                          · exact Or.inr y
              have r78 : Run 78 [some (.ref 67), some (.long (jL d)), none, some (.long (jL l)), none, some (.int (jI p'))] [] (sI h' 68 ps.length (jI p')) (0, 0) := by
                have F2 : Fr (fun a => a = 67 ∨ a = 68) noT h (sI h' 68 ps.length (jI p')) := F.sI (by omega) _ _
                have L2 := L.F F2 (fun _ z => z.elim)
                have e0 : hI (sI h' 68 ps.length (jI p')) 67 0 = jI ps.length := (congrFun (sI_a _ (by decide) _ _) _).trans hc.1
                refine hR 60 48 _ _ _ _ _ _ rfl ?_
                refine ⟨L2.K 67 rfl, L2.K 67 rfl, ?_⟩
                refine r88 l l _ _ (Nat.le_refl _) i1 i2 (Nat.dvd_refl _) (Or.inr rfl) (fun q hq hql => Or.inr hql) ⟨?_, ?_, fun i q hq => ?_⟩ (F2.sI (by omega) _ _) rfl
                · rw [sI_at, e0, jI_add]
                  simp only [List.length_append, List.length_cons, List.length_nil]
                  rfl
                · simp only [List.length_append, List.length_cons, List.length_nil]
                  omega
                · refine (congrFun (sI_a _ (by decide) _ _) _).trans ?_
                  by_cases hj : i = ps.length
                  · subst hj
                    rw [List.getElem?_append_right (Nat.le_refl _), Nat.sub_self] at hq
                    have h9 : some p' = some q := hq
                    rw [← Option.some.inj h9]
                    exact sI_at _ _ _ _
                  · have hjl := lt_of_some hq
                    simp only [List.length_append, List.length_cons, List.length_nil] at hjl
                    rw [List.getElem?_append_left (by omega)] at hq
                    exact (sI_k _ _ hj _).trans (hc.2.2 i q hq)
              refine hR 60 42 _ _ _ _ _ _ rfl ?_
              refine ⟨L0.K 67 rfl, _, L0.R 67 1 _ rfl, L0.K 67 rfl, ?_⟩
              rw [hc.1]
              refine ⟨L0.K 68 rfl, ?_, ?_⟩
              · rw [show hN h' 68 = 8 from L0.N 67 rfl]
                exact jI_in (by omega) (by omega) (by omega)
              · rw [jI_nat (by omega) (by omega), Int.toNat_natCast]
                exact r78
            · simp (disch := omega) only [mj_lcm, jI_lt, jI_le, jI_eq, jL_lt, jL_le, jL_eq, jI_lt0, jI_0le, jI_0lt, jI_le0, jI_eq0, jL_eq0, jI_L, jI_add, jI_sub, jI_mul, jI_neg, jL_add, jL_sub, jL_mul, jL_neg, jL_I, jI_div, jI_mod, jL_div, jL_mod] at c2
              have hnd : ¬ p' ∣ l := fun z => by
                have := Nat.mod_eq_zero_of_dvd z
                omega
              refine r107 l p' ps h' hp1 (by omega) ⟨i1, i2, i3, by omega, by omega, i6, i7, odd_ge i2 hp3 (fun q hq hql => ?_), fun q hq => ?_, i10, i11⟩ hc F
              · have h1 := hmin q hq hql
                rcases Nat.lt_or_ge p' q with z | z
                · exact z
                · exfalso
                  have : q = p' := by omega
                  subst this
                  exact hnd hql
              · obtain ⟨a1, a2, a3, a4⟩ := i9 q hq
                exact ⟨a1, a2, a3, by omega⟩
        have hpp2 : (p : Int) * p ≤ 1048582 * 1048582 := sq_le (by omega) (by omega)
        have hpp0 := sqn (p : Int)
        refine ⟨fun c2 => ?_, fun c2 => ?_⟩
        · exact r54 p _ (Nat.le_refl _) hpl i4 i8 rfl
        · rw [jI_L (by omega) (by omega), jL_mul] at c2
          simp (disch := omega) only [mj_lcm, jI_lt, jI_le, jI_eq, jL_lt, jL_le, jL_eq, jI_lt0, jI_0le, jI_0lt, jI_le0, jI_eq0, jL_eq0, jI_L, jI_add, jI_sub, jI_mul, jI_neg, jL_add, jL_sub, jL_mul, jL_neg, jL_I, jI_div, jI_mod, jL_div, jL_mod] at c2
          have hsq : l < p * p := by
            have : ((p * p : Nat) : Int) = (p : Int) * p := Int.natCast_mul ..
            omega
          have hlp := pr_of_sq (by omega) i8 hsq
          refine r54 l _ hpl (Nat.le_refl _) i2 (fun q hq hql => ?_) (jL_I _)
          rcases hlp.2 q hql with z | z
          · have := hq.1
            omega
          · omega
  have r10 : ∀ (t l : Nat) (lL : Int64) (h' : mj_H) (x5 : Option Value), l ≤ t → 0 < l → l ∣ D → (∀ q, Pr q → q % 2 = 1 → q ∣ D → q ∣ l) → isCh h' [] → Fr (fun a => a = 67 ∨ a = 68) noT h h' → lL = jL l → Run 10 [some (.ref 67), some (.long (jL d)), none, some (.long lL), none, x5] [] h' (0, 0) := by
    intro t
    induction t with
    | zero => intro l lL h' x5 ht hl0; omega
    | succ t ih =>
      rintro l lL h' x5 ht hl0 hlD hq hc F rfl
      have hle := Nat.le_of_dvd hD0 hlD
      have em : jL (l : Int) % jL 2 = jL ((l % 2 : Nat) : Int) := by
        rw [jL_mod (by omega) (by omega) (by decide) (by decide)]
        rfl
      refine hR 60 6 _ _ _ _ _ _ rfl ?_
      refine ⟨by decide, ?_⟩
      rw [em]
      refine ⟨fun c => ⟨by decide, ?_⟩, fun c => ?_⟩
      · simp (disch := omega) only [mj_lcm, jI_lt, jI_le, jI_eq, jL_lt, jL_le, jL_eq, jI_lt0, jI_0le, jI_0lt, jI_le0, jI_eq0, jL_eq0, jI_L, jI_add, jI_sub, jI_mul, jI_neg, jL_add, jL_sub, jL_mul, jL_neg, jL_I, jI_div, jI_mod, jL_div, jL_mod] at c
        have ed : jL (l : Int) / jL 2 = jL ((l / 2 : Nat) : Int) := by
          rw [jL_div (by omega) (by omega) (by decide) (by decide), Int.tdiv_eq_ediv_of_nonneg (by omega)]
          congr 1
        refine ih (l / 2) _ h' _ (by omega) (by omega) (Nat.dvd_trans ⟨2, by omega⟩ hlD) (fun q h1 h2 h3 => ?_) hc F ed
        have := hq q h1 h2 h3
        rw [show l = l / 2 * 2 by omega] at this
        rcases pr_mul h1 this with z | z
        · exact z
        · have := Nat.le_of_dvd (by decide) z
          have := h1.1
          omega
      · simp (disch := omega) only [mj_lcm, jI_lt, jI_le, jI_eq, jL_lt, jL_le, jL_eq, jI_lt0, jI_0le, jI_0lt, jI_le0, jI_eq0, jL_eq0, jI_L, jI_add, jI_sub, jI_mul, jI_neg, jL_add, jL_sub, jL_mul, jL_neg, jL_I, jI_div, jI_mod, jL_div, jL_mod] at c
        refine hR 60 17 _ _ _ _ _ _ rfl ?_
        refine r32 (D + 4) l 3 [] _ _ h' (by omega) (by omega) ⟨hl0, by omega, hlD, by decide, by decide, by decide, ?_, ?_, fun q hq => by simp at hq, fun i j q r hij hq => ?_, fun q h1 h2 h3 => Or.inr (hq q h1 h2 h3)⟩ hc F rfl rfl
        · show 1 * l ≤ D
          omega
        · have := odd_ge (l := l) (p := 1) (by omega) (by decide) (fun q hq _ => hq.1)
          exact this
        · rw [List.getElem?_nil] at hq
          cases hq
  refine hR 60 0 _ _ _ _ _ _ rfl ?_
  refine ⟨L.K 67 rfl, jcall (ct_28 G (by omega) (by omega) _) ?_⟩
  rw [hD]
  refine r10 D D _ _ _ (Nat.le_refl _) hD0 (Nat.dvd_refl _) (fun q _ _ h3 => h3) ⟨sI_at _ _ _ _, by decide, fun i p hp => ?_⟩ ((Fr.refl (fun a => a = 67 ∨ a = 68) noT h).sI (by omega) _ _) rfl
  rw [List.getElem?_nil] at hp
  cases hp
