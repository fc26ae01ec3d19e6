/-! the model: rows of digits, as many as are wanted -/
def isD (h : mj_H) (i n : Nat) (v : Int) : Prop := ∀ k, k < n → hI h 1440 (2200 * i + k) = jI (dgt v k)
def rgD (n : Nat) (v : Int) : Prop := -(32768 * pB (n - 1)) ≤ v ∧ v < 32768 * pB (n - 1)
/-- of the rows only the first n digits of row t are changed -/
def FrD (t n : Nat) (h h' : mj_H) : Prop := FrI [1440] h h' ∧ ∀ c, c < 2200 * t ∨ 2200 * t + n ≤ c → hI h' 1440 c = hI h 1440 c
/-- all digits of all rows are digits -/
def isOK (h : mj_H) : Prop := ∀ c, c < 11000 → ∃ d : Int, 0 ≤ d ∧ d < 65536 ∧ hI h 1440 c = jI d
def isDg (h : mj_H) (n : Nat) : Prop := hI h 1412 48 = jI n ∧ 8 ≤ n ∧ n ≤ 2200
theorem FrD.refl (t n : Nat) (h : mj_H) : FrD t n h h := ⟨FrI.refl _ _, fun _ _ => rfl⟩
theorem FrD.trans {t n : Nat} {h h' h'' : mj_H} (a : FrD t n h h') (b : FrD t n h' h'') : FrD t n h h'' := ⟨(a.1.trans b.1).mono (by simp), fun c hc => (b.2 c hc).trans (a.2 c hc)⟩
theorem FrD.dg {t m n : Nat} {h h' : mj_H} (f : FrD t m h h') (a : isDg h n) : isDg h' n := ⟨(congrFun (f.1.2 1412 (by simp)) 48).trans a.1, a.2⟩
theorem FrD.md {t n : Nat} {h h' : mj_H} (f : FrD t n h h') (a : isMd h) : isMd h' := a.fr f.1.1
theorem FrD.ok {t n : Nat} {h h' : mj_H} {v : Int} (f : FrD t n h h') (d : isD h' t n v) (a : isOK h) : isOK h' := by
  intro c hc
  by_cases z : c < 2200 * t ∨ 2200 * t + n ≤ c
  · obtain ⟨e, e1, e2, e3⟩ := a c hc
    exact ⟨e, e1, e2, (f.2 c z).trans e3⟩
  · have := d (c - 2200 * t) (by omega)
    rw [show 2200 * t + (c - 2200 * t) = c by omega] at this
    exact ⟨_, (dgt_rng v _).1, (dgt_rng v _).2, this⟩
theorem isD.o {t i n m : Nat} {h h' : mj_H} {v : Int} (a : isD h i n v) (f : FrD t m h h') (hne : i ≠ t) (hn : n ≤ 2200) (hm : m ≤ 2200) : isD h' i n v := fun k hk => (f.2 _ (by omega)).trans (a k hk)
/-- FormHouseModel.start(IJ)V; cuts at [3] -/
def cd_233 : List mj_E := [(0, false, .iconst 0, 1, 0, 0, 0, jI 0, 0),
  (1, false, .istore 4, 2, 0, 0, 0, 0, 0),
  (3, true, .iload 4, 2, 0, 0, 0, 0, 0),
  (5, false, .aload_n 0, 1, 0, 0, 0, 0, 0),
  (6, false, .getfield 313, 3, 17, 48, 0, 0, 0),
  (9, false, .if_icmp .ge 41, 3, 27, 0, 0, 0, 0),
  (12, false, .aload_n 0, 1, 0, 0, 0, 0, 0),
  (13, false, .iload_n 1, 1, 0, 0, 0, 0, 0),
  (14, false, .iload 4, 2, 0, 0, 0, 0, 0),
  (16, false, .iload 4, 2, 0, 0, 0, 0, 0),
  (18, false, .iconst 4, 1, 0, 0, 0, jI 4, 0),
  (19, false, .if_icmp .ge 13, 3, 18, 0, 0, 0, 0),
  (22, false, .lload_n 2, 1, 0, 0, 0, 0, 0),
  (23, false, .bipush 16, 2, 0, 0, 0, jI 16, 0),
  (25, false, .iload 4, 2, 0, 0, 0, 0, 0),
  (27, false, .imul, 1, 0, 0, 0, 0, 0),
  (28, false, .lshr, 1, 0, 0, 0, 0, 0),
  (29, false, .goto 7, 3, 21, 0, 0, 0, 0),
  (32, false, .lload_n 2, 1, 0, 0, 0, 0, 0),
  (33, false, .bipush 63, 2, 0, 0, 0, jI 63, 0),
  (35, false, .lshr, 1, 0, 0, 0, 0, 0),
  (36, false, .ldc2_w 248, 3, 0, 0, 0, 0, jL 65535),
  (39, false, .land, 1, 0, 0, 0, 0, 0),
  (40, false, .l2i, 1, 0, 0, 0, 0, 0),
  (41, false, .invokevirtual 319, 3, 234, 3, 17, 0, 0),
  (44, false, .iinc 4 1, 3, 0, 0, 0, jI 1, 0),
  (47, false, .goto (-44), 3, 2, 0, 0, 0, 0),
  (50, false, .return_, 1, 0, 0, 0, 0, 0)]
def cx_233 : mj_X := (0, [], [])
theorem tb_233 : mj_tab (mj_mt 233) cx_233 cd_233 mj_mh [(0, 0, 0), (0, 0, 0), (0, 0, 0), (0, 0, 0), (7147, 0, 0), (0, 0, 0), (0, 0, 0), (0, 0, 0), (0, 0, 0), (0, 0, 0), (0, 0, 0), (0, 0, 0), (0, 0, 0), (0, 0, 0), (0, 0, 0), (0, 0, 0), (0, 0, 0), (0, 0, 0), (0, 0, 0), (0, 0, 0), (0, 0, 0), (7061, 0, 0), (0, 0, 0), (0, 0, 0), (8084, 0, 0), (0, 0, 0), (0, 0, 0), (0, 0, 0)] = true := mj_tab_f (by decide +kernel)
theorem ct_233 (G : mj_G) {h : mj_H} (hm : isMd h) {i n : Nat} (hi : i < 5) (hn : isDg h n) {v : Int} (h1 : -9223372036854775808 ≤ v) (h2 : v < 9223372036854775808) : mj_Ct G (mj_mt 233) 0 0 [.ref 1412, .int (jI i), .long (jL v)] h (fun o h' => o = .returned none ∧ isD h' i n v ∧ FrD i n h h') := by
  refine mj_Ct_of mj_ok tb_233 rfl rfl (Nat.le_of_ble_eq_true rfl) (fun Run hR => ?_)
  have loop : ∀ (m k : Nat) (kI : Int32) (h' : mj_H), k + m = n → FrD i n h h' → (∀ j, j < k → hI h' 1440 (2200 * i + j) = jI (dgt v j)) → kI = jI k → Run 3 [some (.ref 1412), some (.int (jI i)), some (.long (jL v)), none, some (.int kI)] [] h' (0, 0) := by
    intro m
    induction m with
    | zero =>
      rintro k kI h' hk F hd rfl
      have hg := F.dg hn
      obtain ⟨g1, g2, g3⟩ := hg
      refine hR 60 2 _ _ _ _ _ _ rfl ?_
      refine ⟨(F.md hm).1, fun c => ⟨rfl, fun j hj => hd j (by omega), F⟩, fun c => ?_⟩
      rw [g1] at c
      simp (disch := omega) only [mj_lcm, jI_lt, jI_le, jI_eq, jL_lt, jL_le, jL_eq, jI_lt0, jI_0le, jI_0lt, jI_le0, jI_eq0, jL_eq0, jI_L, jI_add, jI_sub, jI_mul, jI_neg, jL_add, jL_sub, jL_mul, jL_neg, jL_I, jI_div, jI_mod, jL_div, jL_mod] at c
      omega
    | succ m ih =>
      rintro k kI h' hk F hd rfl
      have hm' := F.md hm
      obtain ⟨n1, n2, n3⟩ := F.dg hn
      have go : ∀ w : Int32, w = jI (dgt v k) → FrD i n h (sI h' 1440 (2200 * i + k) w) ∧ ∀ j, j < k + 1 → hI (sI h' 1440 (2200 * i + k) w) 1440 (2200 * i + j) = jI (dgt v j) := by
        rintro w rfl
        refine ⟨⟨F.1.sI (by simp) _ _, fun c hc => (sI_k _ _ (by omega) _).trans (F.2 c hc)⟩, fun j hj => ?_⟩
        by_cases z : j = k
        · rw [z]
          exact sI_at _ _ _ _
        · exact (sI_k _ _ (by omega) _).trans (hd j (by omega))
      refine hR 60 2 _ _ _ _ _ _ rfl ?_
      refine ⟨hm'.1, fun c => ?_, fun c => ⟨fun c2 => ⟨hm'.1, jcallV (ct_234 G hm' hi (by omega) _) ?_⟩, fun c2 => ⟨hm'.1, jcallV (ct_234 G hm' hi (by omega) _) ?_⟩⟩⟩
      · rw [n1] at c
        simp (disch := omega) only [mj_lcm, jI_lt, jI_le, jI_eq, jL_lt, jL_le, jL_eq, jI_lt0, jI_0le, jI_0lt, jI_le0, jI_eq0, jL_eq0, jI_L, jI_add, jI_sub, jI_mul, jI_neg, jL_add, jL_sub, jL_mul, jL_neg, jL_I, jI_div, jI_mod, jL_div, jL_mod] at c
        omega
      · simp (disch := omega) only [mj_lcm, jI_lt, jI_le, jI_eq, jL_lt, jL_le, jL_eq, jI_lt0, jI_0le, jI_0lt, jI_le0, jI_eq0, jL_eq0, jI_L, jI_add, jI_sub, jI_mul, jI_neg, jL_add, jL_sub, jL_mul, jL_neg, jL_I, jI_div, jI_mod, jL_div, jL_mod] at c2
        have e : ((jL v >>> ((jI 63).toInt64 &&& 63)) &&& jL 65535).toInt32 = jI (dgt v k) := by
          rw [jL_shr (K := 63) 63 (by decide) rfl h1 h2, mask16, jL_I]
          unfold dgt
          rw [dgt_small h1 h2 (by omega)]
          rfl
        obtain ⟨g1, g2⟩ := go _ e
        exact ih (k + 1) _ _ (by omega) g1 g2 (by rw [jI_add]; rfl)
      · simp (disch := omega) only [mj_lcm, jI_lt, jI_le, jI_eq, jL_lt, jL_le, jL_eq, jI_lt0, jI_0le, jI_0lt, jI_le0, jI_eq0, jL_eq0, jI_L, jI_add, jI_sub, jI_mul, jI_neg, jL_add, jL_sub, jL_mul, jL_neg, jL_I, jI_div, jI_mod, jL_div, jL_mod] at c2
        have e : ((jL v >>> ((jI 16 * jI k).toInt64 &&& 63)) &&& jL 65535).toInt32 = jI (dgt v k) := by
          rw [jI_mul, jL_shr (16 * k) (by omega) (by omega) h1 h2, mask16, jL_I]
          unfold dgt pB
          rw [show (65536 : Int) = 2 ^ 16 from rfl, ← Int.pow_mul]
        obtain ⟨g1, g2⟩ := go _ e
        exact ih (k + 1) _ _ (by omega) g1 g2 (by rw [jI_add]; rfl)
  refine hR 60 0 _ _ _ _ _ _ rfl ?_
  exact loop n 0 _ h (by omega) (FrD.refl _ _ _) (fun j hj => by omega) rfl
abbrev l250 (t : Int) (x : Int64) (i j : Int) (c : Int64) (k : Int32) (x9 x10 : Option Value) : mj_Ls := [some (.ref 1412), some (.int (jI t)), some (.long x), none, some (.int (jI i)), some (.int (jI j)), some (.long c), none, some (.int k), x9, x10]
/-- FormHouseModel.combine(IJII)V; cuts at [3, 6, 15, 41, 55, 62] -/
def cl_250_1 : List mj_E := (41, true, .aload_n 0, 1, 0, 0, 0, 0, 0) ::
  (42, false, .iload_n 1, 1, 0, 0, 0, 0, 0) ::
  (43, false, .iload 8, 2, 0, 0, 0, 0, 0) ::
  (45, false, .lload 9, 2, 0, 0, 0, 0, 0) ::
  (47, false, .ldc2_w 248, 3, 0, 0, 0, 0, jL 65535) ::
  (50, false, .land, 1, 0, 0, 0, 0, 0) ::
  (51, false, .l2i, 1, 0, 0, 0, 0, 0) ::
  (52, false, .invokevirtual 319, 3, 234, 3, 17, 0, 0) ::
  (55, true, .lload 9, 2, 0, 0, 0, 0, 0) ::
  (57, false, .bipush 16, 2, 0, 0, 0, jI 16, 0) ::
  (59, false, .lshr, 1, 0, 0, 0, 0, 0) ::
  (60, false, .lstore 6, 2, 0, 0, 0, 0, 0) ::
  (62, true, .iinc 8 1, 3, 0, 0, 0, jI 1, 0) ::
  (65, false, .goto (-59), 3, 4, 0, 0, 0, 0) ::
  (68, false, .return_, 1, 0, 0, 0, 0, 0) ::
  []
def cl_250_0 : List mj_E := (0, false, .lconst 0, 1, 0, 0, 0, 0, jL 0) ::
  (1, false, .lstore 6, 2, 0, 0, 0, 0, 0) ::
  (3, true, .iconst 0, 1, 0, 0, 0, jI 0, 0) ::
  (4, false, .istore 8, 2, 0, 0, 0, 0, 0) ::
  (6, true, .iload 8, 2, 0, 0, 0, 0, 0) ::
  (8, false, .aload_n 0, 1, 0, 0, 0, 0, 0) ::
  (9, false, .getfield 313, 3, 17, 48, 0, 0, 0) ::
  (12, false, .if_icmp .ge 56, 3, 38, 0, 0, 0, 0) ::
  (15, true, .lload_n 2, 1, 0, 0, 0, 0, 0) ::
  (16, false, .aload_n 0, 1, 0, 0, 0, 0, 0) ::
  (17, false, .iload 4, 2, 0, 0, 0, 0, 0) ::
  (19, false, .iload 8, 2, 0, 0, 0, 0, 0) ::
  (21, false, .invokevirtual 316, 3, 237, 2, 17, 0, 0) ::
  (24, false, .i2l, 1, 0, 0, 0, 0, 0) ::
  (25, false, .lmul, 1, 0, 0, 0, 0, 0) ::
  (26, false, .aload_n 0, 1, 0, 0, 0, 0, 0) ::
  (27, false, .iload 5, 2, 0, 0, 0, 0, 0) ::
  (29, false, .iload 8, 2, 0, 0, 0, 0, 0) ::
  (31, false, .invokevirtual 316, 3, 237, 2, 17, 0, 0) ::
  (34, false, .i2l, 1, 0, 0, 0, 0, 0) ::
  (35, false, .ladd, 1, 0, 0, 0, 0, 0) ::
  (36, false, .lload 6, 2, 0, 0, 0, 0, 0) ::
  (38, false, .ladd, 1, 0, 0, 0, 0, 0) ::
  (39, false, .lstore 9, 2, 0, 0, 0, 0, 0) ::
  cl_250_1
def cd_250 : List mj_E := cl_250_0
def cx_250 : mj_X := (0, [], [])
theorem tb_250 : mj_tab (mj_mt 250) cx_250 cd_250 mj_mh [(0, 0, 0), (0, 0, 0), (0, 0, 0), (0, 0, 0), (0, 0, 0), (0, 0, 0), (7147, 0, 0), (0, 0, 0), (0, 0, 0), (0, 0, 0), (0, 0, 0), (0, 0, 0), (8096, 0, 0), (0, 0, 0), (0, 0, 0), (0, 0, 0), (0, 0, 0), (0, 0, 0), (8096, 0, 0), (0, 0, 0), (0, 0, 0), (0, 0, 0), (0, 0, 0), (0, 0, 0), (0, 0, 0), (0, 0, 0), (0, 0, 0), (0, 0, 0), (7061, 0, 0), (0, 0, 0), (0, 0, 0), (8084, 0, 0), (0, 0, 0), (0, 0, 0), (0, 0, 0), (0, 0, 0), (0, 0, 0), (0, 0, 0), (0, 0, 0)] = true := mj_tab_f (by decide +kernel)
theorem ct_250 (G : mj_G) {h : mj_H} (hm : isMd h) {t i j n : Nat} (ht : t < 5) (hi : i < 5) (hj : j < 5) (hn : isDg h n) {x a b : Int} (hx : -2199023255552 ≤ x ∧ x ≤ 2199023255552) (ha : isD h i n a) (hb : isD h j n b) : mj_Ct G (mj_mt 250) 0 0 [.ref 1412, .int (jI t), .long (jL x), .int (jI i), .int (jI j)] h (fun o h' => o = .returned none ∧ isD h' t n (x * a + b) ∧ FrD t n h h') := by
  obtain ⟨n1, n2, n3⟩ := hn
  refine mj_Ct_of mj_ok tb_250 rfl rfl (Nat.le_of_ble_eq_true rfl) (fun Run hR => ?_)
  have loop : ∀ (m k : Nat) (kI : Int32) (cL : Int64) (h' : mj_H) (x9 x10 : Option Value), k + m = n → FrI [1440] h h' → (∀ c, c < 2200 * t ∨ 2200 * t + k ≤ c → hI h' 1440 c = hI h 1440 c) → (∀ l, l < k → hI h' 1440 (2200 * t + l) = jI (dgt (x * a + b) l)) → cL = jL (cy x a 1 b k) → kI = jI k → Run 6 (l250 t (jL x) i j cL kI x9 x10) [] h' (0, 0) := by
    intro m
    induction m with
    | zero =>
      rintro k kI cL h' x9 x10 hk F hr hd rfl rfl
      have g1 : hI h' 1412 48 = jI n := (congrFun (F.2 1412 (by simp)) 48).trans n1
      refine hR 60 4 _ _ _ _ _ _ rfl ?_
      refine ⟨(hm.fr F.1).1, fun c => ⟨rfl, fun l hl => hd l (by omega), F, fun c hc => hr c (by omega)⟩, fun c => ?_⟩
      rw [g1] at c
      simp (disch := omega) only [mj_lcm, jI_lt, jI_le, jI_eq, jL_lt, jL_le, jL_eq, jI_lt0, jI_0le, jI_0lt, jI_le0, jI_eq0, jL_eq0, jI_L, jI_add, jI_sub, jI_mul, jI_neg, jL_add, jL_sub, jL_mul, jL_neg, jL_I, jI_div, jI_mod, jL_div, jL_mod] at c
      omega
    | succ m ih =>
      rintro k kI cL h' x9 x10 hk F hr hd rfl rfl
      have hm' := hm.fr F.1
      have g1 : hI h' 1412 48 = jI n := (congrFun (F.2 1412 (by simp)) 48).trans n1
      have ea : hI h' 1440 (2200 * i + k) = jI (dgt a k) := (hr _ (by omega)).trans (ha k (by omega))
      have eb : hI h' 1440 (2200 * j + k) = jI (dgt b k) := (hr _ (by omega)).trans (hb k (by omega))
      have ra := dgt_rng a k
      have rb := dgt_rng b k
      have cb := cy_bd (M := 2199023255552) hx (show -2199023255552 ≤ (1 : Int) ∧ (1 : Int) ≤ 2199023255552 by omega) a b k
      have b1 := mul_bd hx ra
      have hs := dgt_sum x a 1 b k
      have hc := cy_s x a 1 b k
      rw [Int.one_mul, Int.one_mul] at hs
      rw [Int.one_mul] at hc
      obtain ⟨V, hV⟩ : ∃ V, V = x * dgt a k + dgt b k + cy x a 1 b k := ⟨_, rfl⟩
      rw [← hV] at hs hc
      have hVb : -9223372036854775808 ≤ V ∧ V < 9223372036854775808 := by
        rw [hV]
        generalize x * dgt a k = X at *
        omega
      have r62 : ∀ (h4 : mj_H) (cL : Int64) (x9 x10 : Option Value), FrI [1440] h h4 → (∀ c, c < 2200 * t ∨ 2200 * t + (k + 1) ≤ c → hI h4 1440 c = hI h 1440 c) → (∀ l, l < k + 1 → hI h4 1440 (2200 * t + l) = jI (dgt (x * a + b) l)) → cL = jL (cy x a 1 b (k + 1)) → Run 62 (l250 t (jL x) i j cL (jI k) x9 x10) [] h4 (0, 0) := by
        intro h4 cL x9 x10 F4 hr4 hd4 e
        refine hR 60 36 _ _ _ _ _ _ rfl ?_
        exact ih (k + 1) _ _ h4 _ _ (by omega) F4 hr4 hd4 e (by rw [jI_add]; rfl)
      have r55 : ∀ (h4 : mj_H) (cL : Int64), FrI [1440] h h4 → (∀ c, c < 2200 * t ∨ 2200 * t + (k + 1) ≤ c → hI h4 1440 c = hI h 1440 c) → (∀ l, l < k + 1 → hI h4 1440 (2200 * t + l) = jI (dgt (x * a + b) l)) → Run 55 (l250 t (jL x) i j cL (jI k) (some (.long (jL V))) none) [] h4 (0, 0) := by
        intro h4 cL F4 hr4 hd4
        refine hR 60 32 _ _ _ _ _ _ rfl ?_
        exact r62 h4 _ _ _ F4 hr4 hd4 (by rw [shr16 hVb.1 hVb.2, hc])
      have r41 : ∀ (cL vL : Int64), vL = jL V → Run 41 (l250 t (jL x) i j cL (jI k) (some (.long vL)) none) [] h' (0, 0) := by
        rintro cL vL rfl
        refine hR 60 24 _ _ _ _ _ _ rfl ?_
        refine ⟨hm'.1, jcallV (ct_234 G hm' ht (by omega) _) ?_⟩
        rw [mask16, jL_I, ← hs]
        refine r55 _ _ (F.sI (by simp) _ _) (fun c hc => (sI_k _ _ (by omega) _).trans (hr c (by omega))) (fun l hl => ?_)
        by_cases z : l = k
        · rw [z]
          exact sI_at _ _ _ _
        · exact (sI_k _ _ (by omega) _).trans (hd l (by omega))
      have r15 : ∀ (x9 x10 : Option Value), Run 15 (l250 t (jL x) i j (jL (cy x a 1 b k)) (jI k) x9 x10) [] h' (0, 0) := by
        intro x9 x10
        refine hR 60 8 _ _ _ _ _ _ rfl ?_
        refine ⟨hm'.1, jcall (ct_237 G hm' hi (by omega)) ⟨hm'.1, jcall (ct_237 G hm' hj (by omega)) ?_⟩⟩
        rw [ea, eb]
        refine r41 _ _ ?_
        rw [jI_L (by omega) (by omega), jI_L (by omega) (by omega), jL_mul, jL_add, jL_add, hV]
      refine hR 60 4 _ _ _ _ _ _ rfl ?_
      refine ⟨hm'.1, fun c => ?_, fun c => r15 _ _⟩
      rw [g1] at c
      simp (disch := omega) only [mj_lcm, jI_lt, jI_le, jI_eq, jL_lt, jL_le, jL_eq, jI_lt0, jI_0le, jI_0lt, jI_le0, jI_eq0, jL_eq0, jI_L, jI_add, jI_sub, jI_mul, jI_neg, jL_add, jL_sub, jL_mul, jL_neg, jL_I, jI_div, jI_mod, jL_div, jL_mod] at c
      omega
  have r3 : ∀ (x8 x9 x10 : Option Value), Run 3 [some (.ref 1412), some (.int (jI t)), some (.long (jL x)), none, some (.int (jI i)), some (.int (jI j)), some (.long (jL 0)), none, x8, x9, x10] [] h (0, 0) := by
    intro x8 x9 x10
    refine hR 60 2 _ _ _ _ _ _ rfl ?_
    exact loop n 0 _ _ h _ _ (by omega) (FrI.refl _ _) (fun _ _ => rfl) (fun l hl => by omega) (by rw [cy_0]) rfl
  refine hR 60 0 _ _ _ _ _ _ rfl ?_
  exact r3 _ _ _
/-- FormHouseModel.negate(I)V; cuts at [2, 4, 12, 26, 38, 44] -/
def cl_241_1 : List mj_E := (38, true, .iload 4, 2, 0, 0, 0, 0, 0) ::
  (40, false, .bipush 16, 2, 0, 0, 0, jI 16, 0) ::
  (42, false, .ishr, 1, 0, 0, 0, 0, 0) ::
  (43, false, .istore_n 2, 1, 0, 0, 0, 0, 0) ::
  (44, true, .iinc 3 1, 3, 0, 0, 0, jI 1, 0) ::
  (47, false, .goto (-43), 3, 4, 0, 0, 0, 0) ::
  (50, false, .return_, 1, 0, 0, 0, 0, 0) ::
  []
def cl_241_0 : List mj_E := (0, false, .iconst 1, 1, 0, 0, 0, jI 1, 0) ::
  (1, false, .istore_n 2, 1, 0, 0, 0, 0, 0) ::
  (2, true, .iconst 0, 1, 0, 0, 0, jI 0, 0) ::
  (3, false, .istore_n 3, 1, 0, 0, 0, 0, 0) ::
  (4, true, .iload_n 3, 1, 0, 0, 0, 0, 0) ::
  (5, false, .aload_n 0, 1, 0, 0, 0, 0, 0) ::
  (6, false, .getfield 313, 3, 17, 48, 0, 0, 0) ::
  (9, false, .if_icmp .ge 41, 3, 30, 0, 0, 0, 0) ::
  (12, true, .ldc_w 325, 3, 0, 0, 0, jI 65535, 0) ::
  (15, false, .aload_n 0, 1, 0, 0, 0, 0, 0) ::
  (16, false, .iload_n 1, 1, 0, 0, 0, 0, 0) ::
  (17, false, .iload_n 3, 1, 0, 0, 0, 0, 0) ::
  (18, false, .invokevirtual 316, 3, 237, 2, 17, 0, 0) ::
  (21, false, .isub, 1, 0, 0, 0, 0, 0) ::
  (22, false, .iload_n 2, 1, 0, 0, 0, 0, 0) ::
  (23, false, .iadd, 1, 0, 0, 0, 0, 0) ::
  (24, false, .istore 4, 2, 0, 0, 0, 0, 0) ::
  (26, true, .aload_n 0, 1, 0, 0, 0, 0, 0) ::
  (27, false, .iload_n 1, 1, 0, 0, 0, 0, 0) ::
  (28, false, .iload_n 3, 1, 0, 0, 0, 0, 0) ::
  (29, false, .iload 4, 2, 0, 0, 0, 0, 0) ::
  (31, false, .ldc_w 325, 3, 0, 0, 0, jI 65535, 0) ::
  (34, false, .iand, 1, 0, 0, 0, 0, 0) ::
  (35, false, .invokevirtual 319, 3, 234, 3, 17, 0, 0) ::
  cl_241_1
def cd_241 : List mj_E := cl_241_0
def cx_241 : mj_X := (0, [], [])
theorem tb_241 : mj_tab (mj_mt 241) cx_241 cd_241 mj_mh [(0, 0, 0), (0, 0, 0), (0, 0, 0), (0, 0, 0), (0, 0, 0), (0, 0, 0), (7147, 0, 0), (0, 0, 0), (8116, 0, 0), (0, 0, 0), (0, 0, 0), (0, 0, 0), (8096, 0, 0), (0, 0, 0), (0, 0, 0), (0, 0, 0), (0, 0, 0), (0, 0, 0), (0, 0, 0), (0, 0, 0), (0, 0, 0), (8116, 0, 0), (0, 0, 0), (8084, 0, 0), (0, 0, 0), (0, 0, 0), (0, 0, 0), (0, 0, 0), (0, 0, 0), (0, 0, 0), (0, 0, 0)] = true := mj_tab_f (by decide +kernel)
theorem ct_241 (G : mj_G) {h : mj_H} (hm : isMd h) {i n : Nat} (hi : i < 5) (hn : isDg h n) {v : Int} (hv : isD h i n v) : mj_Ct G (mj_mt 241) 0 0 [.ref 1412, .int (jI i)] h (fun o h' => o = .returned none ∧ isD h' i n (-v) ∧ FrD i n h h') := by
  obtain ⟨n1, n2, n3⟩ := hn
  refine mj_Ct_of mj_ok tb_241 rfl rfl (Nat.le_of_ble_eq_true rfl) (fun Run hR => ?_)
  have loop : ∀ (m k : Nat) (cI kI : Int32) (h' : mj_H) (x4 : Option Value), k + m = n → FrI [1440] h h' → (∀ c, c < 2200 * i ∨ 2200 * i + k ≤ c → hI h' 1440 c = hI h 1440 c) → (∀ l, l < k → hI h' 1440 (2200 * i + l) = jI (dgt (-v) l)) → cI = jI (cy (-1) v 0 0 k + 1) → kI = jI k → Run 4 [some (.ref 1412), some (.int (jI i)), some (.int cI), some (.int kI), x4] [] h' (0, 0) := by
    intro m
    induction m with
    | zero =>
      rintro k cI kI h' x4 hk F hr hd rfl rfl
      have g1 : hI h' 1412 48 = jI n := (congrFun (F.2 1412 (by simp)) 48).trans n1
      refine hR 60 4 _ _ _ _ _ _ rfl ?_
      refine ⟨(hm.fr F.1).1, fun c => ⟨rfl, fun l hl => hd l (by omega), F, fun c hc => hr c (by omega)⟩, fun c => ?_⟩
      rw [g1] at c
      simp (disch := omega) only [mj_lcm, jI_lt, jI_le, jI_eq, jL_lt, jL_le, jL_eq, jI_lt0, jI_0le, jI_0lt, jI_le0, jI_eq0, jL_eq0, jI_L, jI_add, jI_sub, jI_mul, jI_neg, jL_add, jL_sub, jL_mul, jL_neg, jL_I, jI_div, jI_mod, jL_div, jL_mod] at c
      omega
    | succ m ih =>
      rintro k cI kI h' x4 hk F hr hd rfl rfl
      have hm' := hm.fr F.1
      have g1 : hI h' 1412 48 = jI n := (congrFun (F.2 1412 (by simp)) 48).trans n1
      have ea : hI h' 1440 (2200 * i + k) = jI (dgt v k) := (hr _ (by omega)).trans (hv k (by omega))
      have ra := dgt_rng v k
      have cb := cy_bd (M := 1) (show -1 ≤ (-1 : Int) ∧ (-1 : Int) ≤ 1 by omega) (show -1 ≤ (0 : Int) ∧ (0 : Int) ≤ 1 by omega) v 0 k
      have hs := dgt_sum (-1) v 0 0 k
      have hc := cy_s (-1) v 0 0 k
      rw [show (-1 : Int) * v + 0 * 0 = -v by omega] at hs
      obtain ⟨C, hC⟩ : ∃ C, C = cy (-1) v 0 0 k := ⟨_, rfl⟩
      rw [← hC] at hs hc cb
      have hs' : dgt (-v) k = (65535 - dgt v k + (C + 1)) % 65536 := by
        rw [hs]
        omega
      have hc' : cy (-1) v 0 0 (k + 1) + 1 = (65535 - dgt v k + (C + 1)) / 65536 := by
        rw [hc]
        omega
      have r44 : ∀ (h4 : mj_H) (cI : Int32) (x4 : Option Value), FrI [1440] h h4 → (∀ c, c < 2200 * i ∨ 2200 * i + (k + 1) ≤ c → hI h4 1440 c = hI h 1440 c) → (∀ l, l < k + 1 → hI h4 1440 (2200 * i + l) = jI (dgt (-v) l)) → cI = jI (cy (-1) v 0 0 (k + 1) + 1) → Run 44 [some (.ref 1412), some (.int (jI i)), some (.int cI), some (.int (jI k)), x4] [] h4 (0, 0) := by
        intro h4 cI x4 F4 hr4 hd4 e
        refine hR 60 28 _ _ _ _ _ _ rfl ?_
        exact ih (k + 1) _ _ h4 _ (by omega) F4 hr4 hd4 e (by rw [jI_add]; rfl)
      have r38 : ∀ (h4 : mj_H) (cI : Int32), FrI [1440] h h4 → (∀ c, c < 2200 * i ∨ 2200 * i + (k + 1) ≤ c → hI h4 1440 c = hI h 1440 c) → (∀ l, l < k + 1 → hI h4 1440 (2200 * i + l) = jI (dgt (-v) l)) → Run 38 [some (.ref 1412), some (.int (jI i)), some (.int cI), some (.int (jI k)), some (.int (jI (65535 - dgt v k + (C + 1))))] [] h4 (0, 0) := by
        intro h4 cI F4 hr4 hd4
        refine hR 60 24 _ _ _ _ _ _ rfl ?_
        refine r44 h4 _ _ F4 hr4 hd4 ?_
        rw [jI_shr (K := 16) 16 (by decide) rfl (by omega) (by omega), hc']
        rfl
      have r26 : ∀ (cI vI : Int32), vI = jI (65535 - dgt v k + (C + 1)) → Run 26 [some (.ref 1412), some (.int (jI i)), some (.int cI), some (.int (jI k)), some (.int vI)] [] h' (0, 0) := by
        rintro cI vI rfl
        refine hR 60 17 _ _ _ _ _ _ rfl ?_
        refine ⟨hm'.1, jcallV (ct_234 G hm' hi (by omega) _) ?_⟩
        rw [jI_mask (k := 16) (m := 65535) (by decide) (by decide), show (2 : Int) ^ 16 = 65536 from rfl, ← hs']
        refine r38 _ _ (F.sI (by simp) _ _) (fun c hc => (sI_k _ _ (by omega) _).trans (hr c (by omega))) (fun l hl => ?_)
        by_cases z : l = k
        · rw [z]
          exact sI_at _ _ _ _
        · exact (sI_k _ _ (by omega) _).trans (hd l (by omega))
      have r12 : ∀ (x4 : Option Value), Run 12 [some (.ref 1412), some (.int (jI i)), some (.int (jI (cy (-1) v 0 0 k + 1))), some (.int (jI k)), x4] [] h' (0, 0) := by
        intro x4
        refine hR 60 8 _ _ _ _ _ _ rfl ?_
        refine ⟨hm'.1, jcall (ct_237 G hm' hi (by omega)) ?_⟩
        rw [ea]
        refine r26 _ _ ?_
        rw [jI_sub, jI_add, hC]
      refine hR 60 4 _ _ _ _ _ _ rfl ?_
      refine ⟨hm'.1, fun c => ?_, fun c => r12 _⟩
      rw [g1] at c
      simp (disch := omega) only [mj_lcm, jI_lt, jI_le, jI_eq, jL_lt, jL_le, jL_eq, jI_lt0, jI_0le, jI_0lt, jI_le0, jI_eq0, jL_eq0, jI_L, jI_add, jI_sub, jI_mul, jI_neg, jL_add, jL_sub, jL_mul, jL_neg, jL_I, jI_div, jI_mod, jL_div, jL_mod] at c
      omega
  have r2 : ∀ (x3 x4 : Option Value), Run 2 [some (.ref 1412), some (.int (jI i)), some (.int (jI 1)), x3, x4] [] h (0, 0) := by
    intro x3 x4
    refine hR 60 2 _ _ _ _ _ _ rfl ?_
    exact loop n 0 _ _ h _ (by omega) (FrI.refl _ _) (fun _ _ => rfl) (fun l hl => by omega) (by rw [cy_0]; rfl) rfl
  refine hR 60 0 _ _ _ _ _ _ rfl ?_
  exact r2 _ _
theorem ct_240' (G : mj_G) {h : mj_H} (hm : isMd h) {t f n : Nat} (ht : t < 5) (hf : f < 5) (hne : t ≠ f) (hn : isDg h n) {v : Int} (hv : isD h f n v) : mj_Ct G (mj_mt 240) 0 0 [.ref 1412, .int (jI t), .int (jI f)] h (fun o h' => o = .returned none ∧ isD h' t n v ∧ FrD t n h h') := by
  obtain ⟨n1, n2, n3⟩ := hn
  refine mj_Ct_mono (ct_240 G hm ht hf hne n3 n1) ?_
  rintro o h' ⟨rfl, F, e⟩
  refine ⟨rfl, fun k hk => ?_, F, fun c hc => ?_⟩
  · have := e (2200 * t + k)
    rw [if_pos (by omega), show 2200 * t + k - 2200 * t = k by omega] at this
    exact this.trans (hv k hk)
  · have := e c
    rw [if_neg (by omega)] at this
    exact this
theorem top_sgn {v : Int} {k : Nat} (h1 : -(32768 * pB k) ≤ v) (h2 : v < 32768 * pB k) : 32767 < dgt v k ↔ v < 0 := by
  have hp := pB_pos k
  have h3 : -32768 ≤ v / pB k := Int.le_ediv_of_mul_le hp (by omega)
  have h4 : v / pB k < 32768 := Int.ediv_lt_of_lt_mul hp h2
  have h5 : v / pB k < 0 ↔ v < 0 := by
    rcases Int.lt_or_le v 0 with z | z
    · exact ⟨fun _ => z, fun _ => Int.ediv_neg_of_neg_of_pos z hp⟩
    · have := Int.ediv_nonneg z (Int.le_of_lt hp)
      omega
  rw [← h5]
  unfold dgt
  omega
theorem ct_238' (G : mj_G) {h : mj_H} (hm : isMd h) {i n : Nat} (hi : i < 5) (hn : isDg h n) {v : Int} (hv : isD h i n v) (hr : rgD n v) : mj_Ct G (mj_mt 238) 0 0 [.ref 1412, .int (jI i)] h (jR (.int (jI (if v < 0 then 1 else 0))) h) := by
  obtain ⟨n1, n2, n3⟩ := hn
  have h1 := dgt_rng v (n - 1)
  have c := ct_238 G hm hi (by omega) n3 n1 (hv (n - 1) (by omega)) h1.1 h1.2
  have ts := top_sgn hr.1 hr.2
  rw [show (if 32767 < dgt v (n - 1) then (1 : Int) else 0) = if v < 0 then 1 else 0 by
    by_cases z : v < 0
    · rw [if_pos z, if_pos (ts.2 z)]
    · rw [if_neg z, if_neg (fun q => z (ts.1 q))]] at c
  exact c
theorem z_rg {n : Nat} (hn : 0 < n) {v : Int} (hr : rgD n v) (h : ∀ k, k < n → dgt v k = 0) : v = 0 := by
  have h1 := z_dgt n h
  have hp := pB_pos (n - 1)
  have e : pB n = pB (n - 1) * 65536 := by
    have := pB_s (n - 1)
    rwa [show n - 1 + 1 = n by omega] at this
  have ts := top_sgn hr.1 hr.2
  rw [h (n - 1) (by omega)] at ts
  have hv0 : 0 ≤ v := by omega
  have := hr.2
  rwa [Int.emod_eq_of_lt hv0 (by omega)] at h1
/-- FormHouseModel.isZero(I)Z; cuts at [2, 10] -/
def cd_236 : List mj_E := [(0, false, .iconst 0, 1, 0, 0, 0, jI 0, 0),
  (1, false, .istore_n 2, 1, 0, 0, 0, 0, 0),
  (2, true, .iload_n 2, 1, 0, 0, 0, 0, 0),
  (3, false, .aload_n 0, 1, 0, 0, 0, 0, 0),
  (4, false, .getfield 313, 3, 17, 48, 0, 0, 0),
  (7, false, .if_icmp .ge 20, 3, 15, 0, 0, 0, 0),
  (10, true, .aload_n 0, 1, 0, 0, 0, 0, 0),
  (11, false, .iload_n 1, 1, 0, 0, 0, 0, 0),
  (12, false, .iload_n 2, 1, 0, 0, 0, 0, 0),
  (13, false, .invokevirtual 316, 3, 237, 2, 17, 0, 0),
  (16, false, .ifCond .eq 5, 3, 13, 0, 0, 0, 0),
  (19, false, .iconst 0, 1, 0, 0, 0, jI 0, 0),
  (20, false, .ireturn, 1, 0, 0, 0, 0, 0),
  (21, false, .iinc 2 1, 3, 0, 0, 0, jI 1, 0),
  (24, false, .goto (-22), 3, 2, 0, 0, 0, 0),
  (27, false, .iconst 1, 1, 0, 0, 0, jI 1, 0),
  (28, false, .ireturn, 1, 0, 0, 0, 0, 0)]
def cx_236 : mj_X := (4, [], [])
theorem tb_236 : mj_tab (mj_mt 236) cx_236 cd_236 mj_mh [(0, 0, 0), (0, 0, 0), (0, 0, 0), (0, 0, 0), (7147, 0, 0), (0, 0, 0), (0, 0, 0), (0, 0, 0), (0, 0, 0), (8096, 0, 0), (0, 0, 0), (0, 0, 0), (0, 0, 0), (0, 0, 0), (0, 0, 0), (0, 0, 0), (0, 0, 0)] = true := mj_tab_f (by decide +kernel)
theorem ct_236 (G : mj_G) {h : mj_H} (hm : isMd h) {i n : Nat} (hi : i < 5) (hn : isDg h n) {v : Int} (hv : isD h i n v) (hr : rgD n v) : mj_Ct G (mj_mt 236) 0 0 [.ref 1412, .int (jI i)] h (jR (.int (jI (if v = 0 then 1 else 0))) h) := by
  obtain ⟨n1, n2, n3⟩ := hn
  refine mj_Ct_of mj_ok tb_236 rfl rfl (Nat.le_of_ble_eq_true rfl) (fun Run hR => ?_)
  have loop : ∀ (m k : Nat) (kI : Int32), k + m = n → (∀ j, j < k → dgt v j = 0) → kI = jI k → Run 2 [some (.ref 1412), some (.int (jI i)), some (.int kI)] [] h (0, 0) := by
    intro m
    induction m with
    | zero =>
      rintro k kI hk hz rfl
      refine hR 60 2 _ _ _ _ _ _ rfl ?_
      refine ⟨hm.1, fun c => ⟨Or.inr rfl, ?_⟩, fun c => ?_⟩
      · rw [if_pos (z_rg (by omega) hr (fun j hj => hz j (by omega)))]
        exact jRe rfl
      · rw [n1] at c
        simp (disch := omega) only [mj_lcm, jI_lt, jI_le, jI_eq, jL_lt, jL_le, jL_eq, jI_lt0, jI_0le, jI_0lt, jI_le0, jI_eq0, jL_eq0, jI_L, jI_add, jI_sub, jI_mul, jI_neg, jL_add, jL_sub, jL_mul, jL_neg, jL_I, jI_div, jI_mod, jL_div, jL_mod] at c
        omega
    | succ m ih =>
      rintro k kI hk hz rfl
      have ra := dgt_rng v k
      have r10 : Run 10 [some (.ref 1412), some (.int (jI i)), some (.int (jI k))] [] h (0, 0) := by
        refine hR 60 6 _ _ _ _ _ _ rfl ?_
        refine ⟨hm.1, jcall (ct_237 G hm hi (by omega)) ?_⟩
        rw [hv k (by omega)]
        refine ⟨fun c => ?_, fun c => ⟨Or.inl rfl, ?_⟩⟩
        · rw [jI_eq0 (by omega) (by omega)] at c
          refine ih (k + 1) _ (by omega) (fun j hj => ?_) (by rw [jI_add]; rfl)
          by_cases z : j = k
          · rw [z]
            exact c
          · exact hz j (by omega)
        · rw [jI_eq0 (by omega) (by omega)] at c
          rw [if_neg]
          · exact jRe rfl
          · intro z
            apply c
            rw [z]
            unfold dgt
            rw [Int.zero_ediv]
            rfl
      refine hR 60 2 _ _ _ _ _ _ rfl ?_
      refine ⟨hm.1, fun c => ?_, fun c => r10⟩
      rw [n1] at c
      simp (disch := omega) only [mj_lcm, jI_lt, jI_le, jI_eq, jL_lt, jL_le, jL_eq, jI_lt0, jI_0le, jI_0lt, jI_le0, jI_eq0, jL_eq0, jI_L, jI_add, jI_sub, jI_mul, jI_neg, jL_add, jL_sub, jL_mul, jL_neg, jL_I, jI_div, jI_mod, jL_div, jL_mod] at c
      omega
  refine hR 60 0 _ _ _ _ _ _ rfl ?_
  exact loop n 0 _ (by omega) (fun j hj => by omega) rfl
/-- FormHouseModel.toSize(I)V; cuts at [6, 14] -/
def cd_239 : List mj_E := [(0, false, .aload_n 0, 1, 0, 0, 0, 0, 0),
  (1, false, .iconst 4, 1, 0, 0, 0, jI 4, 0),
  (2, false, .iload_n 1, 1, 0, 0, 0, 0, 0),
  (3, false, .invokevirtual 336, 3, 240, 2, 17, 0, 0),
  (6, true, .aload_n 0, 1, 0, 0, 0, 0, 0),
  (7, false, .iconst 4, 1, 0, 0, 0, jI 4, 0),
  (8, false, .invokevirtual 322, 3, 238, 1, 17, 0, 0),
  (11, false, .ifCond .eq 8, 3, 11, 0, 0, 0, 0),
  (14, true, .aload_n 0, 1, 0, 0, 0, 0, 0),
  (15, false, .iconst 4, 1, 0, 0, 0, jI 4, 0),
  (16, false, .invokevirtual 339, 3, 241, 1, 17, 0, 0),
  (19, false, .return_, 1, 0, 0, 0, 0, 0)]
def cx_239 : mj_X := (0, [], [])
theorem tb_239 : mj_tab (mj_mt 239) cx_239 cd_239 mj_mh [(0, 0, 0), (0, 0, 0), (0, 0, 0), (8108, 0, 0), (0, 0, 0), (0, 0, 0), (8100, 0, 0), (0, 0, 0), (0, 0, 0), (0, 0, 0), (8112, 0, 0), (0, 0, 0)] = true := mj_tab_f (by decide +kernel)
theorem ct_239 (G : mj_G) {h : mj_H} (hm : isMd h) {i n : Nat} (hi : i < 4) (hn : isDg h n) {v : Int} (hv : isD h i n v) (hr : rgD n v) : mj_Ct G (mj_mt 239) 0 0 [.ref 1412, .int (jI i)] h (fun o h' => o = .returned none ∧ isD h' 4 n v.natAbs ∧ FrD 4 n h h') := by
  refine mj_Ct_of mj_ok tb_239 rfl rfl (Nat.le_of_ble_eq_true rfl) (fun Run hR => ?_)
  have r6 : ∀ h3 : mj_H, isD h3 4 n v → FrD 4 n h h3 → Run 6 [some (.ref 1412), some (.int (jI i))] [] h3 (0, 0) := by
    intro h3 d3 F3
    have m3 := F3.md hm
    refine hR 60 4 _ _ _ _ _ _ rfl ?_
    refine ⟨m3.1, jcall (ct_238' G m3 (i := 4) (by omega) (F3.dg hn) d3 hr) ?_⟩
    by_cases z : v < 0
    · rw [if_pos z]
      refine ⟨fun c => absurd c (by decide), fun c => ?_⟩
      have r14 : Run 14 [some (.ref 1412), some (.int (jI i))] [] h3 (0, 0) := by
        refine hR 60 8 _ _ _ _ _ _ rfl ?_
        refine ⟨m3.1, jcallP (ct_241 G m3 (i := 4) (by omega) (F3.dg hn) d3) ?_⟩
        rintro o h4 ⟨rfl, d4, F4⟩
        refine ⟨rfl, ?_, F3.trans F4⟩
        rw [show (v.natAbs : Int) = -v by omega]
        exact d4
      exact r14
    · rw [if_neg z]
      refine ⟨fun c => ⟨rfl, ?_, F3⟩, fun c => absurd rfl c⟩
      rw [show (v.natAbs : Int) = v by omega]
      exact d3
  refine hR 60 0 _ _ _ _ _ _ rfl ?_
  refine ⟨hm.1, jcallP (ct_240' G hm (t := 4) (f := i) (by omega) (by omega) (by omega) hn hv) ?_⟩
  rintro o h3 ⟨rfl, d3, F3⟩
  exact r6 h3 d3 F3
