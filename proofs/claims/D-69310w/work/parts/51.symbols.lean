/-! contracts: Kronecker's symbol -/
/-- FormHouse$Symbols.turned(JJ)I; cuts at [9, 16, 77] -/
def cl_129_2 : List mj_E := (90, false, .lstore 5, 2, 0, 0, 0, 0, 0) ::
  (92, false, .goto (-83), 3, 6, 0, 0, 0, 0) ::
  (95, false, .lload 7, 2, 0, 0, 0, 0, 0) ::
  (97, false, .lconst 1, 1, 0, 0, 0, 0, jL 1) ::
  (98, false, .lcmp, 1, 0, 0, 0, 0, 0) ::
  (99, false, .ifCond .ne 8, 3, 56, 0, 0, 0, 0) ::
  (102, false, .iload 4, 2, 0, 0, 0, 0, 0) ::
  (104, false, .goto 4, 3, 57, 0, 0, 0, 0) ::
  (107, false, .iconst 0, 1, 0, 0, 0, jI 0, 0) ::
  (108, false, .ireturn, 1, 0, 0, 0, 0, 0) ::
  []
def cl_129_1 : List mj_E := (41, false, .istore 4, 2, 0, 0, 0, 0, 0) ::
  (43, false, .goto (-27), 3, 10, 0, 0, 0, 0) ::
  (46, false, .lload 5, 2, 0, 0, 0, 0, 0) ::
  (48, false, .ldc2_w 33, 3, 0, 0, 0, 0, jL 3) ::
  (51, false, .land, 1, 0, 0, 0, 0, 0) ::
  (52, false, .ldc2_w 33, 3, 0, 0, 0, 0, jL 3) ::
  (55, false, .lcmp, 1, 0, 0, 0, 0, 0) ::
  (56, false, .ifCond .ne 21, 3, 41, 0, 0, 0, 0) ::
  (59, false, .lload 7, 2, 0, 0, 0, 0, 0) ::
  (61, false, .ldc2_w 33, 3, 0, 0, 0, 0, jL 3) ::
  (64, false, .land, 1, 0, 0, 0, 0, 0) ::
  (65, false, .ldc2_w 33, 3, 0, 0, 0, 0, jL 3) ::
  (68, false, .lcmp, 1, 0, 0, 0, 0, 0) ::
  (69, false, .ifCond .ne 8, 3, 41, 0, 0, 0, 0) ::
  (72, false, .iload 4, 2, 0, 0, 0, 0, 0) ::
  (74, false, .ineg, 1, 0, 0, 0, 0, 0) ::
  (75, false, .istore 4, 2, 0, 0, 0, 0, 0) ::
  (77, true, .lload 7, 2, 0, 0, 0, 0, 0) ::
  (79, false, .lload 5, 2, 0, 0, 0, 0, 0) ::
  (81, false, .lrem, 1, 0, 0, 0, 0, 0) ::
  (82, false, .lstore 9, 2, 0, 0, 0, 0, 0) ::
  (84, false, .lload 5, 2, 0, 0, 0, 0, 0) ::
  (86, false, .lstore 7, 2, 0, 0, 0, 0, 0) ::
  (88, false, .lload 9, 2, 0, 0, 0, 0, 0) ::
  cl_129_2
def cl_129_0 : List mj_E := (0, false, .iconst 1, 1, 0, 0, 0, jI 1, 0) ::
  (1, false, .istore 4, 2, 0, 0, 0, 0, 0) ::
  (3, false, .lload_n 0, 1, 0, 0, 0, 0, 0) ::
  (4, false, .lstore 5, 2, 0, 0, 0, 0, 0) ::
  (6, false, .lload_n 2, 1, 0, 0, 0, 0, 0) ::
  (7, false, .lstore 7, 2, 0, 0, 0, 0, 0) ::
  (9, true, .lload 5, 2, 0, 0, 0, 0, 0) ::
  (11, false, .lconst 0, 1, 0, 0, 0, 0, jL 0) ::
  (12, false, .lcmp, 1, 0, 0, 0, 0, 0) ::
  (13, false, .ifCond .eq 82, 3, 50, 0, 0, 0, 0) ::
  (16, true, .lload 5, 2, 0, 0, 0, 0, 0) ::
  (18, false, .lconst 1, 1, 0, 0, 0, 0, jL 1) ::
  (19, false, .land, 1, 0, 0, 0, 0, 0) ::
  (20, false, .lconst 0, 1, 0, 0, 0, 0, jL 0) ::
  (21, false, .lcmp, 1, 0, 0, 0, 0, 0) ::
  (22, false, .ifCond .ne 24, 3, 26, 0, 0, 0, 0) ::
  (25, false, .lload 5, 2, 0, 0, 0, 0, 0) ::
  (27, false, .ldc2_w 17, 3, 0, 0, 0, 0, jL 2) ::
  (30, false, .ldiv, 1, 0, 0, 0, 0, 0) ::
  (31, false, .lstore 5, 2, 0, 0, 0, 0, 0) ::
  (33, false, .iload 4, 2, 0, 0, 0, 0, 0) ::
  (35, false, .lload 7, 2, 0, 0, 0, 0, 0) ::
  (37, false, .invokestatic 19, 3, 128, 1, 0, 0, 0) ::
  (40, false, .imul, 1, 0, 0, 0, 0, 0) ::
  cl_129_1
def cd_129 : List mj_E := cl_129_0
def cx_129 : mj_X := (1, [], [])
theorem tb_129 : mj_tab (mj_mt 129) cx_129 cd_129 mj_mh [(0, 0, 0), (0, 0, 0), (0, 0, 0), (0, 0, 0), (0, 0, 0), (0, 0, 0), (0, 0, 0), (0, 0, 0), (0, 0, 0), (0, 0, 0), (0, 0, 0), (0, 0, 0), (0, 0, 0), (0, 0, 0), (0, 0, 0), (0, 0, 0), (0, 0, 0), (5181, 0, 0), (0, 0, 0), (0, 0, 0), (0, 0, 0), (0, 0, 0), (5182, 0, 0), (0, 0, 0), (0, 0, 0), (0, 0, 0), (0, 0, 0), (5190, 0, 0), (0, 0, 0), (5190, 0, 0), (0, 0, 0), (0, 0, 0), (0, 0, 0), (5190, 0, 0), (0, 0, 0), (5190, 0, 0), (0, 0, 0), (0, 0, 0), (0, 0, 0), (0, 0, 0), (0, 0, 0), (0, 0, 0), (0, 0, 0), (0, 0, 0), (0, 0, 0), (0, 0, 0), (0, 0, 0), (0, 0, 0), (0, 0, 0), (0, 0, 0), (0, 0, 0), (0, 0, 0), (0, 0, 0), (0, 0, 0), (0, 0, 0), (0, 0, 0), (0, 0, 0), (0, 0, 0)] = true := mj_tab_f (by decide +kernel)
theorem ct_129 (G : mj_G) {a0 m0 : Nat} {ps : List Nat} (hps : allP ps) (hm : prodL ps = m0) (ha0 : a0 < 4611686018427387904) (hm0 : m0 < 4611686018427387904) (h : mj_H) : mj_Ct G (mj_mt 129) 0 0 [.long (jL a0), .long (jL m0)] h (jR (.int (jI (jacL a0 ps))) h) := by
  refine mj_Ct_of mj_ok tb_129 rfl rfl (Nat.le_of_ble_eq_true rfl) (fun Run hR => ?_)
  have outer : ∀ (k a m : Nat) (s : Int) (sI : Int32) (aL mL : Int64) (r9 r10 : Option Value) (qs : List Nat), a ≤ k → allP qs → prodL qs = m → m < 4611686018427387904 → a < 4611686018427387904 → s * jacL a qs = jacL a0 ps → sI = jI s → aL = jL a → mL = jL m → Run 9 [some (.long (jL a0)), none, some (.long (jL m0)), none, some (.int sI), some (.long aL), none, some (.long mL), none, r9, r10] [] h (0, 0) := by
    intro k
    induction k using Nat.strongRecOn with
    | _ k outer =>
      have r77 : ∀ (a m : Nat) (s : Int) (sI : Int32) (r9 r10 : Option Value) (q2 : List Nat), a ≤ k → 0 < a → allP q2 → prodL q2 = a → m < 4611686018427387904 → a < 4611686018427387904 → s * jacL (m % a) q2 = jacL a0 ps → sI = jI s → Run 77 [some (.long (jL a0)), none, some (.long (jL m0)), none, some (.int sI), some (.long (jL a)), none, some (.long (jL m)), none, r9, r10] [] h (0, 0) := by
        rintro a m s sI r9 r10 q2 hk h0 hq hqa hmb hab hj rfl
        have hmod : jL (m : Int) % jL (a : Int) = jL ((m % a : Nat) : Int) := by
          rw [jL_mod (by omega) (by omega) (by omega) (by omega)]
          rfl
        have hlt : m % a < a := Nat.mod_lt _ h0
        refine hR 60 41 _ _ _ _ _ _ rfl ?_
        refine ⟨?_, ?_⟩
        · simp (disch := omega) only [mj_lcm, jI_lt, jI_le, jI_eq, jL_lt, jL_le, jL_eq, jI_lt0, jI_0le, jI_0lt, jI_le0, jI_eq0, jL_eq0, jI_L, jI_add, jI_sub, jI_mul, jI_neg, jL_add, jL_sub, jL_mul, jL_neg, jL_I, jI_div, jI_mod, jL_div, jL_mod]
          omega
        · exact outer (m % a) (by omega) (m % a) a s _ _ _ _ _ q2 (Nat.le_refl _) hq hqa hab (by omega) hj rfl hmod rfl
      have inner : ∀ (n a m : Nat) (s : Int) (sI : Int32) (aL mL : Int64) (r9 r10 : Option Value) (qs : List Nat), a ≤ n → a ≤ k → 0 < a → allP qs → prodL qs = m → m < 4611686018427387904 → a < 4611686018427387904 → s * jacL a qs = jacL a0 ps → sI = jI s → aL = jL a → mL = jL m → Run 16 [some (.long (jL a0)), none, some (.long (jL m0)), none, some (.int sI), some (.long aL), none, some (.long mL), none, r9, r10] [] h (0, 0) := by
        intro n
        induction n with
        | zero => intro a m s sI aL mL r9 r10 qs h1 h2 h3; omega
        | succ n ih =>
          rintro a m s sI aL mL r9 r10 qs hn hk h0 hq hqm hmb hab hj rfl rfl rfl
          have e1 : jL a &&& jL 1 = jL ((a : Int) % 2) := jL_mask (k := 1) (by decide) rfl
          have e3 : jL a &&& jL 3 = jL ((a : Int) % 4) := jL_mask (k := 2) (by decide) rfl
          have f3 : jL m &&& jL 3 = jL ((m : Int) % 4) := jL_mask (k := 2) (by decide) rfl
          refine hR 60 10 _ _ _ _ _ _ rfl ?_
          refine ⟨fun c => ?_, fun c => ?_⟩
          · rw [e1] at c
            simp (disch := omega) only [mj_lcm, jI_lt, jI_le, jI_eq, jL_lt, jL_le, jL_eq, jI_lt0, jI_0le, jI_0lt, jI_le0, jI_eq0, jL_eq0, jI_L, jI_add, jI_sub, jI_mul, jI_neg, jL_add, jL_sub, jL_mul, jL_neg, jL_I, jI_div, jI_mod, jL_div, jL_mod] at c
            have hdv : (jL (a : Int)) / jL 2 = jL ((a / 2 : Nat) : Int) := by
              rw [jL_div (by omega) (by omega) (by decide) (by decide), Int.tdiv_eq_ediv_of_nonneg (by omega)]
              congr 1
            refine ⟨by decide, jcall (ct_128 G h) ?_⟩
            refine ih (a / 2) m (s * (if (m : Int) % 8 = 1 ∨ (m : Int) % 8 = 7 then 1 else -1)) _ _ _ _ _ qs (by omega) (by omega) (by omega) hq hqm hmb (by omega) ?_ (jI_mul _ _) hdv rfl
            rw [← hj]
            have e2 : a = 2 * (a / 2) := by omega
            have e4 : jacL a qs = t8 m * jacL (a / 2) qs := by
              rw [← hqm, ← jac_twos hq, ← e2]
            rw [e4, Int.mul_assoc]
            congr 2
            unfold t8
            by_cases g : m % 8 = 1 ∨ m % 8 = 7
            · rw [if_pos g, if_pos (by omega)]
            · rw [if_neg g, if_neg (by omega)]
          · rw [e1] at c
            simp (disch := omega) only [mj_lcm, jI_lt, jI_le, jI_eq, jL_lt, jL_le, jL_eq, jI_lt0, jI_0le, jI_0lt, jI_le0, jI_eq0, jL_eq0, jI_L, jI_add, jI_sub, jI_mul, jI_neg, jL_add, jL_sub, jL_mul, jL_neg, jL_I, jI_div, jI_mod, jL_div, jL_mod] at c
            have hodd : a % 2 = 1 := by omega
            obtain ⟨q2, g1, g2, g3⟩ := jac_step hq hqm hodd
            refine ⟨fun c2 => ⟨fun c3 => ?_, fun c3 => ?_⟩, fun c2 => ?_⟩
            · rw [e3] at c2
              rw [f3] at c3
              simp (disch := omega) only [mj_lcm, jI_lt, jI_le, jI_eq, jL_lt, jL_le, jL_eq, jI_lt0, jI_0le, jI_0lt, jI_le0, jI_eq0, jL_eq0, jI_L, jI_add, jI_sub, jI_mul, jI_neg, jL_add, jL_sub, jL_mul, jL_neg, jL_I, jI_div, jI_mod, jL_div, jL_mod] at c2 c3
              refine r77 a m (-s) _ _ _ q2 hk h0 g1 g2 hmb hab ?_ (jI_neg _)
              rw [← hj, g3, if_pos (by omega)]
              grind
            · rw [e3] at c2
              rw [f3] at c3
              simp (disch := omega) only [mj_lcm, jI_lt, jI_le, jI_eq, jL_lt, jL_le, jL_eq, jI_lt0, jI_0le, jI_0lt, jI_le0, jI_eq0, jL_eq0, jI_L, jI_add, jI_sub, jI_mul, jI_neg, jL_add, jL_sub, jL_mul, jL_neg, jL_I, jI_div, jI_mod, jL_div, jL_mod] at c2 c3
              refine r77 a m s _ _ _ q2 hk h0 g1 g2 hmb hab ?_ rfl
              rw [← hj, g3, if_neg (by omega), Int.one_mul]
            · rw [e3] at c2
              simp (disch := omega) only [mj_lcm, jI_lt, jI_le, jI_eq, jL_lt, jL_le, jL_eq, jI_lt0, jI_0le, jI_0lt, jI_le0, jI_eq0, jL_eq0, jI_L, jI_add, jI_sub, jI_mul, jI_neg, jL_add, jL_sub, jL_mul, jL_neg, jL_I, jI_div, jI_mod, jL_div, jL_mod] at c2
              refine r77 a m s _ _ _ q2 hk h0 g1 g2 hmb hab ?_ rfl
              rw [← hj, g3, if_neg (by omega), Int.one_mul]
      rintro a m s sI aL mL r9 r10 qs hk hq hqm hmb hab hj rfl rfl rfl
      refine hR 60 6 _ _ _ _ _ _ rfl ?_
      refine ⟨fun c => ?_, fun c => ?_⟩
      · simp (disch := omega) only [mj_lcm, jI_lt, jI_le, jI_eq, jL_lt, jL_le, jL_eq, jI_lt0, jI_0le, jI_0lt, jI_le0, jI_eq0, jL_eq0, jI_L, jI_add, jI_sub, jI_mul, jI_neg, jL_add, jL_sub, jL_mul, jL_neg, jL_I, jI_div, jI_mod, jL_div, jL_mod] at c
        have ha : a = 0 := by omega
        subst ha
        refine ⟨fun c2 => ?_, fun c2 => ?_⟩
        · simp (disch := omega) only [mj_lcm, jI_lt, jI_le, jI_eq, jL_lt, jL_le, jL_eq, jI_lt0, jI_0le, jI_0lt, jI_le0, jI_eq0, jL_eq0, jI_L, jI_add, jI_sub, jI_mul, jI_neg, jL_add, jL_sub, jL_mul, jL_neg, jL_I, jI_div, jI_mod, jL_div, jL_mod] at c2
          refine jRe ?_
          rw [← hj]
          cases qs with
          | nil =>
            show Value.int (jI s) = Value.int (jI (s * 1))
            rw [Int.mul_one]
          | cons p t =>
            exfalso
            have h1 := (allP_h hq).1.1
            have h3 := (prodL_odd t (allP_t hq)).2
            have h4 : p * prodL t = m := hqm
            have : 2 * 1 ≤ p * prodL t := Nat.mul_le_mul h1 h3
            omega
        · simp (disch := omega) only [mj_lcm, jI_lt, jI_le, jI_eq, jL_lt, jL_le, jL_eq, jI_lt0, jI_0le, jI_0lt, jI_le0, jI_eq0, jL_eq0, jI_L, jI_add, jI_sub, jI_mul, jI_neg, jL_add, jL_sub, jL_mul, jL_neg, jL_I, jI_div, jI_mod, jL_div, jL_mod] at c2
          refine jRe ?_
          rw [← hj]
          cases qs with
          | nil =>
            have : (1 : Nat) = m := hqm
            omega
          | cons p t =>
            rw [jac_zero, Int.mul_zero]
      · simp (disch := omega) only [mj_lcm, jI_lt, jI_le, jI_eq, jL_lt, jL_le, jL_eq, jI_lt0, jI_0le, jI_0lt, jI_le0, jI_eq0, jL_eq0, jI_L, jI_add, jI_sub, jI_mul, jI_neg, jL_add, jL_sub, jL_mul, jL_neg, jL_I, jI_div, jI_mod, jL_div, jL_mod] at c
        exact inner a a m s _ _ _ _ _ qs (Nat.le_refl _) hk (by omega) hq hqm hmb hab hj rfl rfl rfl
  refine hR 60 0 _ _ _ _ _ _ rfl ?_
  exact outer a0 a0 m0 1 _ _ _ _ _ ps (Nat.le_refl _) hps hm hm0 ha0 (Int.one_mul _) rfl rfl rfl
/-- Kronecker's symbol of d and n, the odd part of n by its primes -/
def kro (d n : Int) (e : Nat) (ps : List Nat) : Int := (if n < 0 ∧ d < 0 then -1 else 1) * ((if d % 2 = 0 then 0 else if d % 8 = 1 ∨ d % 8 = 7 then 1 else -1) ^ e * jacL (d % (prodL ps : Int)).toNat ps)
/-- FormHouse$Symbols.of(JI)I; cuts at [40, 54, 55, 63, 90] -/
def cl_127_2 : List mj_E := (77, false, .ldiv, 1, 0, 0, 0, 0, 0) ::
  (78, false, .lstore 4, 2, 0, 0, 0, 0, 0) ::
  (80, false, .iload_n 3, 1, 0, 0, 0, 0, 0) ::
  (81, false, .lload_n 0, 1, 0, 0, 0, 0, 0) ::
  (82, false, .invokestatic 19, 3, 128, 1, 0, 0, 0) ::
  (85, false, .imul, 1, 0, 0, 0, 0, 0) ::
  (86, false, .istore_n 3, 1, 0, 0, 0, 0, 0) ::
  (87, false, .goto (-24), 3, 40, 0, 0, 0, 0) ::
  (90, true, .iload_n 3, 1, 0, 0, 0, 0, 0) ::
  (91, false, .lload_n 0, 1, 0, 0, 0, 0, 0) ::
  (92, false, .lload 4, 2, 0, 0, 0, 0, 0) ::
  (94, false, .invokestatic 25, 3, 29, 2, 0, 0, 0) ::
  (97, false, .lload 4, 2, 0, 0, 0, 0, 0) ::
  (99, false, .invokestatic 29, 3, 129, 2, 0, 0, 0) ::
  (102, false, .imul, 1, 0, 0, 0, 0, 0) ::
  (103, false, .ireturn, 1, 0, 0, 0, 0, 0) ::
  []
def cl_127_1 : List mj_E := (38, false, .iconst 0, 1, 0, 0, 0, jI 0, 0) ::
  (39, false, .ireturn, 1, 0, 0, 0, 0, 0) ::
  (40, true, .iload_n 2, 1, 0, 0, 0, 0, 0) ::
  (41, false, .ifCond .ge 13, 3, 34, 0, 0, 0, 0) ::
  (44, false, .lload_n 0, 1, 0, 0, 0, 0, 0) ::
  (45, false, .lconst 0, 1, 0, 0, 0, 0, jL 0) ::
  (46, false, .lcmp, 1, 0, 0, 0, 0, 0) ::
  (47, false, .ifCond .ge 7, 3, 34, 0, 0, 0, 0) ::
  (50, false, .iconst (-1), 1, 0, 0, 0, jI (-1), 0) ::
  (51, false, .goto 4, 3, 35, 0, 0, 0, 0) ::
  (54, true, .iconst 1, 1, 0, 0, 0, jI 1, 0) ::
  (55, true, .istore_n 3, 1, 0, 0, 0, 0, 0) ::
  (56, false, .iload_n 2, 1, 0, 0, 0, 0, 0) ::
  (57, false, .i2l, 1, 0, 0, 0, 0, 0) ::
  (58, false, .invokestatic 11, 3, 28, 1, 0, 0, 0) ::
  (61, false, .lstore 4, 2, 0, 0, 0, 0, 0) ::
  (63, true, .lload 4, 2, 0, 0, 0, 0, 0) ::
  (65, false, .lconst 1, 1, 0, 0, 0, 0, jL 1) ::
  (66, false, .land, 1, 0, 0, 0, 0, 0) ::
  (67, false, .lconst 0, 1, 0, 0, 0, 0, jL 0) ::
  (68, false, .lcmp, 1, 0, 0, 0, 0, 0) ::
  (69, false, .ifCond .ne 21, 3, 56, 0, 0, 0, 0) ::
  (72, false, .lload 4, 2, 0, 0, 0, 0, 0) ::
  (74, false, .ldc2_w 17, 3, 0, 0, 0, 0, jL 2) ::
  cl_127_2
def cl_127_0 : List mj_E := (0, false, .iload_n 2, 1, 0, 0, 0, 0, 0) ::
  (1, false, .ifCond .ne 23, 3, 14, 0, 0, 0, 0) ::
  (4, false, .lload_n 0, 1, 0, 0, 0, 0, 0) ::
  (5, false, .lconst 1, 1, 0, 0, 0, 0, jL 1) ::
  (6, false, .lcmp, 1, 0, 0, 0, 0, 0) ::
  (7, false, .ifCond .eq 11, 3, 10, 0, 0, 0, 0) ::
  (10, false, .lload_n 0, 1, 0, 0, 0, 0, 0) ::
  (11, false, .ldc2_w 9, 3, 0, 0, 0, 0, jL (-1)) ::
  (14, false, .lcmp, 1, 0, 0, 0, 0, 0) ::
  (15, false, .ifCond .ne 7, 3, 12, 0, 0, 0, 0) ::
  (18, false, .iconst 1, 1, 0, 0, 0, jI 1, 0) ::
  (19, false, .goto 4, 3, 13, 0, 0, 0, 0) ::
  (22, false, .iconst 0, 1, 0, 0, 0, jI 0, 0) ::
  (23, false, .ireturn, 1, 0, 0, 0, 0, 0) ::
  (24, false, .lload_n 0, 1, 0, 0, 0, 0, 0) ::
  (25, false, .lconst 1, 1, 0, 0, 0, 0, jL 1) ::
  (26, false, .land, 1, 0, 0, 0, 0, 0) ::
  (27, false, .lconst 0, 1, 0, 0, 0, 0, jL 0) ::
  (28, false, .lcmp, 1, 0, 0, 0, 0, 0) ::
  (29, false, .ifCond .ne 11, 3, 26, 0, 0, 0, 0) ::
  (32, false, .iload_n 2, 1, 0, 0, 0, 0, 0) ::
  (33, false, .iconst 1, 1, 0, 0, 0, jI 1, 0) ::
  (34, false, .iand, 1, 0, 0, 0, 0, 0) ::
  (35, false, .ifCond .ne 5, 3, 26, 0, 0, 0, 0) ::
  cl_127_1
def cd_127 : List mj_E := cl_127_0
def cx_127 : mj_X := (1, [], [])
theorem tb_127 : mj_tab (mj_mt 127) cx_127 cd_127 mj_mh [(0, 0, 0), (0, 0, 0), (0, 0, 0), (0, 0, 0), (0, 0, 0), (0, 0, 0), (0, 0, 0), (5179, 0, 0), (0, 0, 0), (0, 0, 0), (0, 0, 0), (0, 0, 0), (0, 0, 0), (0, 0, 0), (0, 0, 0), (0, 0, 0), (0, 0, 0), (0, 0, 0), (0, 0, 0), (0, 0, 0), (0, 0, 0), (0, 0, 0), (0, 0, 0), (0, 0, 0), (0, 0, 0), (0, 0, 0), (0, 0, 0), (0, 0, 0), (0, 0, 0), (0, 0, 0), (0, 0, 0), (0, 0, 0), (0, 0, 0), (0, 0, 0), (0, 0, 0), (0, 0, 0), (0, 0, 0), (0, 0, 0), (5180, 0, 0), (0, 0, 0), (0, 0, 0), (0, 0, 0), (0, 0, 0), (0, 0, 0), (0, 0, 0), (0, 0, 0), (0, 0, 0), (5181, 0, 0), (0, 0, 0), (0, 0, 0), (0, 0, 0), (0, 0, 0), (5182, 0, 0), (0, 0, 0), (0, 0, 0), (0, 0, 0), (0, 0, 0), (0, 0, 0), (0, 0, 0), (5186, 0, 0), (0, 0, 0), (5187, 0, 0), (0, 0, 0), (0, 0, 0)] = true := mj_tab_f (by decide +kernel)
theorem ct_127 (G : mj_G) {d n : Int} {e : Nat} {ps : List Nat} (hps : allP ps) (hn : (n.natAbs : Nat) = 2 ^ e * prodL ps) (hn0 : n ≠ 0) (hd : -1099511627776 < d ∧ d < 1099511627776) (hnb : -2147483648 < n ∧ n < 2147483648) (h : mj_H) : mj_Ct G (mj_mt 127) 0 0 [.long (jL d), .int (jI n)] h (jR (.int (jI (kro d n e ps))) h) := by
  refine mj_Ct_of mj_ok tb_127 rfl rfl (Nat.le_of_ble_eq_true rfl) (fun Run hR => ?_)
  have mp := prodL_odd ps hps
  have hple : prodL ps ≤ n.natAbs := by
    rw [hn]
    exact Nat.le_mul_of_pos_left _ (Nat.pow_pos (by decide))
  have hemod : 0 ≤ d % (prodL ps : Int) := Int.emod_nonneg _ (by omega)
  have hemod2 : d % (prodL ps : Int) < prodL ps := Int.emod_lt_of_pos _ (by omega)
  have e1 : jL d &&& jL 1 = jL (d % 2) := jL_mask (k := 1) (by decide) rfl
  have n1 : jI n &&& jI 1 = jI (n % 2) := jI_mask (k := 1) (by decide) rfl
  have r90 : ∀ (s : Int) (sI : Int32) (mL : Int64), s * jacL (d % (prodL ps : Int)).toNat ps = kro d n e ps → sI = jI s → mL = jL (prodL ps) → Run 90 [some (.long (jL d)), none, some (.int (jI n)), some (.int sI), some (.long mL), none] [] h (0, 0) := by
    rintro s sI mL hs rfl rfl
    refine hR 60 56 _ _ _ _ _ _ rfl ?_
    refine jcall (ct_29 G (by omega) (by omega) (by omega) (by omega) h) ?_
    have e5 : d % (prodL ps : Int) = ((d % (prodL ps : Int)).toNat : Int) := by omega
    rw [e5]
    refine jcall (ct_129 G hps rfl (by omega) (by omega) h) ?_
    refine jRe ?_
    rw [jI_mul, hs]
  have loop : ∀ (k : Nat) (s : Int) (sI : Int32) (mL : Int64), (k = 0 ∨ d % 2 ≠ 0) → s * ((if d % 2 = 0 then 0 else if d % 8 = 1 ∨ d % 8 = 7 then 1 else -1) ^ k * jacL (d % (prodL ps : Int)).toNat ps) = kro d n e ps → 2 ^ k * prodL ps ≤ n.natAbs → sI = jI s → mL = jL ((2 ^ k * prodL ps : Nat) : Int) → Run 63 [some (.long (jL d)), none, some (.int (jI n)), some (.int sI), some (.long mL), none] [] h (0, 0) := by
    intro k
    induction k with
    | zero =>
      rintro s sI mL h1 h2 h3 rfl rfl
      have m1 : jL ((2 ^ 0 * prodL ps : Nat) : Int) &&& jL 1 = jL (((2 ^ 0 * prodL ps : Nat) : Int) % 2) := jL_mask (k := 1) (by decide) rfl
      refine hR 60 40 _ _ _ _ _ _ rfl ?_
      refine ⟨fun c => ?_, fun c => ?_⟩
      · exfalso
        rw [m1] at c
        rw [Nat.pow_zero, Nat.one_mul] at c
        simp (disch := omega) only [mj_lcm, jI_lt, jI_le, jI_eq, jL_lt, jL_le, jL_eq, jI_lt0, jI_0le, jI_0lt, jI_le0, jI_eq0, jL_eq0, jI_L, jI_add, jI_sub, jI_mul, jI_neg, jL_add, jL_sub, jL_mul, jL_neg, jL_I, jI_div, jI_mod, jL_div, jL_mod] at c
        omega
      · refine r90 s _ _ ?_ rfl ?_
        · rw [← h2, Int.pow_zero, Int.one_mul]
        · rw [Nat.pow_zero, Nat.one_mul]
    | succ k ih =>
      rintro s sI mL h1 h2 h3 rfl rfl
      have m1 : jL ((2 ^ (k + 1) * prodL ps : Nat) : Int) &&& jL 1 = jL (((2 ^ (k + 1) * prodL ps : Nat) : Int) % 2) := jL_mask (k := 1) (by decide) rfl
      have hev : 2 ^ (k + 1) * prodL ps = 2 * (2 ^ k * prodL ps) := by rw [Nat.pow_succ, Nat.mul_comm (2 ^ k) 2, Nat.mul_assoc]
      have hd2 : d % 2 ≠ 0 := by omega
      refine hR 60 40 _ _ _ _ _ _ rfl ?_
      refine ⟨fun c => ?_, fun c => ?_⟩
      · refine ⟨by decide, jcall (ct_128 G h) ?_⟩
        refine ih (s * (if d % 8 = 1 ∨ d % 8 = 7 then 1 else -1)) _ _ (Or.inr hd2) ?_ (by omega) (jI_mul _ _) ?_
        · rw [← h2, if_neg hd2, Int.pow_succ]
          generalize (if d % 8 = 1 ∨ d % 8 = 7 then (1 : Int) else -1) = t
          grind
        · rw [hev, jL_div (by omega) (by omega) (by decide) (by decide), Int.tdiv_eq_ediv_of_nonneg (by omega)]
          congr 1
          omega
      · exfalso
        rw [m1, hev] at c
        simp (disch := omega) only [mj_lcm, jI_lt, jI_le, jI_eq, jL_lt, jL_le, jL_eq, jI_lt0, jI_0le, jI_0lt, jI_le0, jI_eq0, jL_eq0, jI_L, jI_add, jI_sub, jI_mul, jI_neg, jL_add, jL_sub, jL_mul, jL_neg, jL_I, jI_div, jI_mod, jL_div, jL_mod] at c
        omega
  have r55 : ∀ (x4 x5 : Option Value), (e = 0 ∨ d % 2 ≠ 0) → ∀ s : Int, s = (if n < 0 ∧ d < 0 then -1 else 1) → ∀ x3, Run 55 [some (.long (jL d)), none, some (.int (jI n)), x3, x4, x5] [.int (jI s)] h (0, 0) := by
    intro x4 x5 he s hs x3
    refine hR 60 35 _ _ _ _ _ _ rfl ?_
    have c28 := ct_28 G (x := n) (by omega) (by omega) h
    rw [← jI_L (by omega) (by omega)] at c28
    refine jcall c28 ?_
    refine loop e s _ _ he ?_ (by omega) rfl (by rw [hn])
    rw [hs]
    rfl
  have r54 : ∀ (x3 x4 x5 : Option Value), (e = 0 ∨ d % 2 ≠ 0) → ¬ (n < 0 ∧ d < 0) → Run 54 [some (.long (jL d)), none, some (.int (jI n)), x3, x4, x5] [] h (0, 0) := by
    intro x3 x4 x5 he hs
    refine hR 60 34 _ _ _ _ _ _ rfl ?_
    exact r55 _ _ he 1 (by rw [if_neg hs]) _
  have r40 : ∀ (x3 x4 x5 : Option Value), (e = 0 ∨ d % 2 ≠ 0) → Run 40 [some (.long (jL d)), none, some (.int (jI n)), x3, x4, x5] [] h (0, 0) := by
    intro x3 x4 x5 he
    refine hR 60 26 _ _ _ _ _ _ rfl ?_
    refine ⟨fun c => ?_, fun c => ⟨fun c2 => ?_, fun c2 => ?_⟩⟩
    · simp (disch := omega) only [mj_lcm, jI_lt, jI_le, jI_eq, jL_lt, jL_le, jL_eq, jI_lt0, jI_0le, jI_0lt, jI_le0, jI_eq0, jL_eq0, jI_L, jI_add, jI_sub, jI_mul, jI_neg, jL_add, jL_sub, jL_mul, jL_neg, jL_I, jI_div, jI_mod, jL_div, jL_mod] at c
      exact r54 _ _ _ he (by omega)
    · simp (disch := omega) only [mj_lcm, jI_lt, jI_le, jI_eq, jL_lt, jL_le, jL_eq, jI_lt0, jI_0le, jI_0lt, jI_le0, jI_eq0, jL_eq0, jI_L, jI_add, jI_sub, jI_mul, jI_neg, jL_add, jL_sub, jL_mul, jL_neg, jL_I, jI_div, jI_mod, jL_div, jL_mod] at c c2
      exact r54 _ _ _ he (by omega)
    · simp (disch := omega) only [mj_lcm, jI_lt, jI_le, jI_eq, jL_lt, jL_le, jL_eq, jI_lt0, jI_0le, jI_0lt, jI_le0, jI_eq0, jL_eq0, jI_L, jI_add, jI_sub, jI_mul, jI_neg, jL_add, jL_sub, jL_mul, jL_neg, jL_I, jI_div, jI_mod, jL_div, jL_mod] at c c2
      exact r55 _ _ he (-1) (by rw [if_pos (by omega)]) _
  have hpar : n % 2 ≠ 0 → e = 0 := by
    intro h2
    cases e with
    | zero => rfl
    | succ k =>
      exfalso
      have : n.natAbs = 2 * (2 ^ k * prodL ps) := by rw [hn, Nat.pow_succ, Nat.mul_comm (2 ^ k) 2, Nat.mul_assoc]
      omega
  have hpar2 : n % 2 = 0 → 0 < e := by
    intro h2
    cases e with
    | zero =>
      exfalso
      rw [Nat.pow_zero, Nat.one_mul] at hn
      omega
    | succ k => omega
  refine hR 60 0 _ _ _ _ _ _ rfl ?_
  refine ⟨fun c => ?_, fun c => ?_⟩
  · exfalso
    simp (disch := omega) only [mj_lcm, jI_lt, jI_le, jI_eq, jL_lt, jL_le, jL_eq, jI_lt0, jI_0le, jI_0lt, jI_le0, jI_eq0, jL_eq0, jI_L, jI_add, jI_sub, jI_mul, jI_neg, jL_add, jL_sub, jL_mul, jL_neg, jL_I, jI_div, jI_mod, jL_div, jL_mod] at c
    omega
  · refine ⟨fun c2 => ⟨fun c3 => ?_, fun c3 => ?_⟩, fun c2 => ?_⟩
    · rw [e1] at c2
      rw [n1] at c3
      simp (disch := omega) only [mj_lcm, jI_lt, jI_le, jI_eq, jL_lt, jL_le, jL_eq, jI_lt0, jI_0le, jI_0lt, jI_le0, jI_eq0, jL_eq0, jI_L, jI_add, jI_sub, jI_mul, jI_neg, jL_add, jL_sub, jL_mul, jL_neg, jL_I, jI_div, jI_mod, jL_div, jL_mod] at c2 c3
      refine jRe ?_
      have he := hpar2 (by omega)
      obtain ⟨k, hk⟩ : ∃ k, e = k + 1 := ⟨e - 1, by omega⟩
      unfold kro
      rw [if_pos (show d % 2 = 0 by omega), hk, Int.pow_succ, Int.mul_zero, Int.zero_mul, Int.mul_zero]
    · rw [n1] at c3
      simp (disch := omega) only [mj_lcm, jI_lt, jI_le, jI_eq, jL_lt, jL_le, jL_eq, jI_lt0, jI_0le, jI_0lt, jI_le0, jI_eq0, jL_eq0, jI_L, jI_add, jI_sub, jI_mul, jI_neg, jL_add, jL_sub, jL_mul, jL_neg, jL_I, jI_div, jI_mod, jL_div, jL_mod] at c3
      exact r40 _ _ _ (Or.inl (hpar (by omega)))
    · rw [e1] at c2
      simp (disch := omega) only [mj_lcm, jI_lt, jI_le, jI_eq, jL_lt, jL_le, jL_eq, jI_lt0, jI_0le, jI_0lt, jI_le0, jI_eq0, jL_eq0, jI_L, jI_add, jI_sub, jI_mul, jI_neg, jL_add, jL_sub, jL_mul, jL_neg, jL_I, jI_div, jI_mod, jL_div, jL_mod] at c2
      exact r40 _ _ _ (by omega)
