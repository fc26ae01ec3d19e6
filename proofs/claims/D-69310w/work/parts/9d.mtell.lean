/-! the model: what is told of numbers -/
theorem jI_congr {a b : Int} (h : a % 4294967296 = b % 4294967296) : jI a = jI b := jI_ext (by rw [jI_tn, h])
theorem z_dgt {v : Int} : ∀ n, (∀ k, k < n → dgt v k = 0) → v % pB n = 0
  | 0, _ => by rw [pB_0]; exact Int.emod_one _
  | n + 1, h => by rw [r_next, z_dgt n (fun k hk => h k (by omega)), h n (by omega)]; omega
theorem z_all {v : Int} (h0 : 0 ≤ v) (h1 : v < pB 1100) (h : ∀ k, k < 1100 → dgt v k = 0) : v = 0 := by
  have := z_dgt 1100 h
  rwa [Int.emod_eq_of_lt h0 h1] at this
theorem wd2 (v : Int) (k : Nat) : (dgt v (2 * k + 1) * 65536 + dgt v (2 * k)) % 4294967296 = v / pB (2 * k) % 4294967296 := by
  have h1 := q_next v (2 * k)
  have h2 := q_next v (2 * k + 1)
  rw [h1, h2]
  generalize v / pB (2 * k + 1 + 1) = q
  generalize dgt v (2 * k + 1) = u
  generalize dgt v (2 * k) = w
  omega
/-- number i, as it is told -/
def isTn (h : mj_H) (i : Nat) (v : Int) : Prop := (i < 12 → isN h i v ∧ inR v) ∧ (12 ≤ i → hI h 1431 (i - 12) = jI v.sign ∧ ∀ k, k < 512 → hI h 1432 (512 * (i - 12) + k) = jI ((v.natAbs : Int) / pB (2 * k)))
/-- the size of number i lies in the spare row, where it must -/
def isTz (h : mj_H) (i : Nat) (v : Int) : Prop := (i < 12 → isN h 14 v.natAbs) ∧ (12 ≤ i → ∀ k, k < 512 → hI h 1432 (512 * (i - 12) + k) = jI ((v.natAbs : Int) / pB (2 * k)))
/-- only the spare row and the code are changed -/
def FrT (h h' : mj_H) : Prop := FrM (fun k => k = 0) noT (fun c => c = 1439) h h' ∧ ∀ c, c < 15400 → hI h' 1439 c = hI h 1439 c
theorem FrT.refl (h : mj_H) : FrT h h := ⟨FrM.refl _ _ _ h, fun _ _ => rfl⟩
theorem FrT.trans {h h' h'' : mj_H} (a : FrT h h') (b : FrT h' h'') : FrT h h'' := ⟨a.1.trans b.1, fun c hc => (b.2 c hc).trans (a.2 c hc)⟩
theorem FrT.n {h h' : mj_H} (a : FrT h h') {i : Nat} (hi : i < 14) {v : Int} (b : isN h i v) : isN h' i v := fun k hk => (a.2 _ (by omega)).trans (b k hk)
theorem FrT.tn {h h' : mj_H} (a : FrT h h') {i : Nat} {v : Int} (b : isTn h i v) : isTn h' i v := ⟨fun z => ⟨a.n (by omega) (b.1 z).1, (b.1 z).2⟩, fun z => ⟨(a.1.I (by decide) (by decide) _).trans (b.2 z).1, fun k hk => (a.1.I (by decide) (by decide) _).trans ((b.2 z).2 k hk)⟩⟩
theorem FrN.T {h h' : mj_H} (a : FrN 14 h h') : FrT h h' := ⟨a.1.toM (by simp) (fun x hx => List.mem_singleton.1 hx), fun c hc => a.2 c (by omega)⟩
theorem FrT.code (h : mj_H) (v : Int32) : FrT h (sI h 1412 0 v) := ⟨(FrM.refl (fun k => k = 0) noT (fun c => c = 1439) h).fI (k := 0) rfl _, fun _ _ => rfl⟩
/-- FormHouseModel.toSpare(I)V; cuts at [] -/
def cd_283 : List mj_E := [(0, false, .aload_n 0, 1, 0, 0, 0, 0, 0),
  (1, false, .iload_n 1, 1, 0, 0, 0, 0, 0),
  (2, false, .invokevirtual 257, 3, 222, 1, 17, 0, 0),
  (5, false, .ifCond .eq 18, 3, 12, 0, 0, 0, 0),
  (8, false, .aload_n 0, 1, 0, 0, 0, 0, 0),
  (9, false, .bipush 14, 2, 0, 0, 0, jI 14, 0),
  (11, false, .ldc2_w 15, 3, 0, 0, 0, 0, jL (-1)),
  (14, false, .iload_n 1, 1, 0, 0, 0, 0, 0),
  (15, false, .lconst 0, 1, 0, 0, 0, 0, jL 0),
  (16, false, .iload_n 1, 1, 0, 0, 0, 0, 0),
  (17, false, .invokevirtual 274, 3, 215, 5, 17, 0, 0),
  (20, false, .goto 10, 3, 16, 0, 0, 0, 0),
  (23, false, .aload_n 0, 1, 0, 0, 0, 0, 0),
  (24, false, .bipush 14, 2, 0, 0, 0, jI 14, 0),
  (26, false, .iload_n 1, 1, 0, 0, 0, 0, 0),
  (27, false, .invokevirtual 278, 3, 217, 2, 17, 0, 0),
  (30, false, .return_, 1, 0, 0, 0, 0, 0)]
def cx_283 : mj_X := (0, [], [])
theorem tb_283 : mj_tab (mj_mt 283) cx_283 cd_283 mj_mh [(0, 0, 0), (0, 0, 0), (7095, 0, 0), (0, 0, 0), (0, 0, 0), (0, 0, 0), (6206, 0, 0), (0, 0, 0), (0, 0, 0), (0, 0, 0), (7067, 0, 0), (0, 0, 0), (0, 0, 0), (0, 0, 0), (0, 0, 0), (7075, 0, 0), (0, 0, 0)] = true := mj_tab_f (by decide +kernel)
theorem ct_283 (G : mj_G) {h : mj_H} (hm : isMd h) {i : Nat} (hi : i < 12) {v : Int} (hv : isN h i v) (hr : inR v) : mj_Ct G (mj_mt 283) 0 0 [.ref 1412, .int (jI i)] h (fun o h' => o = .returned none ∧ isN h' 14 v.natAbs ∧ FrN 14 h h') := by
  refine mj_Ct_of mj_ok tb_283 rfl rfl (Nat.le_of_ble_eq_true rfl) (fun Run hR => ?_)
  refine hR 60 0 _ _ _ _ _ _ rfl ?_
  refine ⟨hm.1, jcall (ct_222' G hm (by omega) hv hr) ?_⟩
  by_cases z : v < 0
  · rw [if_pos z]
    refine ⟨fun c => absurd c (by decide), fun c => ⟨hm.1, jcallP (ct_215 G hm (t := 14) (i := i) (j := i) (x := -1) (y := 0) (by omega) (by omega) (by omega) (by omega) (by omega) hv hv) ?_⟩⟩
    rintro o h3 ⟨rfl, n3, F3⟩
    refine ⟨rfl, ?_, F3⟩
    rw [show (v.natAbs : Int) = -1 * v + 0 * v by omega]
    exact n3
  · rw [if_neg z]
    refine ⟨fun c => ⟨hm.1, jcallP (ct_217' G hm (t := 14) (f := i) (by omega) (by omega) (by omega) hv) ?_⟩, fun c => absurd rfl c⟩
    rintro o h3 ⟨rfl, n3, F3⟩
    refine ⟨rfl, ?_, F3⟩
    rw [show (v.natAbs : Int) = v by omega]
    exact n3
/-- FormHouseModel.signOf(I)I; cuts at [] -/
def cd_281 : List mj_E := [(0, false, .iload_n 1, 1, 0, 0, 0, 0, 0),
  (1, false, .bipush 11, 2, 0, 0, 0, jI 11, 0),
  (3, false, .if_icmp .le 13, 3, 10, 0, 0, 0, 0),
  (6, false, .aload_n 0, 1, 0, 0, 0, 0, 0),
  (7, false, .getfield 85, 3, 17, 38, 2, 0, 0),
  (10, false, .iload_n 1, 1, 0, 0, 0, 0, 0),
  (11, false, .bipush 12, 2, 0, 0, 0, jI 12, 0),
  (13, false, .isub, 1, 0, 0, 0, 0, 0),
  (14, false, .iaload, 1, 0, 0, 0, 0, 0),
  (15, false, .ireturn, 1, 0, 0, 0, 0, 0),
  (16, false, .aload_n 0, 1, 0, 0, 0, 0, 0),
  (17, false, .iload_n 1, 1, 0, 0, 0, 0, 0),
  (18, false, .invokevirtual 257, 3, 222, 1, 17, 0, 0),
  (21, false, .ifCond .eq 7, 3, 16, 0, 0, 0, 0),
  (24, false, .iconst (-1), 1, 0, 0, 0, jI (-1), 0),
  (25, false, .goto 16, 3, 23, 0, 0, 0, 0),
  (28, false, .aload_n 0, 1, 0, 0, 0, 0, 0),
  (29, false, .iload_n 1, 1, 0, 0, 0, 0, 0),
  (30, false, .invokevirtual 260, 3, 219, 1, 17, 0, 0),
  (33, false, .ifCond .le 7, 3, 22, 0, 0, 0, 0),
  (36, false, .iconst 1, 1, 0, 0, 0, jI 1, 0),
  (37, false, .goto 4, 3, 23, 0, 0, 0, 0),
  (40, false, .iconst 0, 1, 0, 0, 0, jI 0, 0),
  (41, false, .ireturn, 1, 0, 0, 0, 0, 0)]
def cx_281 : mj_X := (1, [], [])
theorem tb_281 : mj_tab (mj_mt 281) cx_281 cd_281 mj_mh [(0, 0, 0), (0, 0, 0), (0, 0, 0), (0, 0, 0), (7137, 0, 0), (0, 0, 0), (0, 0, 0), (0, 0, 0), (0, 0, 0), (0, 0, 0), (0, 0, 0), (0, 0, 0), (7095, 0, 0), (0, 0, 0), (0, 0, 0), (0, 0, 0), (0, 0, 0), (0, 0, 0), (7083, 0, 0), (0, 0, 0), (0, 0, 0), (0, 0, 0), (0, 0, 0), (0, 0, 0)] = true := mj_tab_f (by decide +kernel)
theorem ct_281 (G : mj_G) {h : mj_H} (L : isLam h) {i : Nat} (hi : i < 524) {v : Int} (hv : isTn h i v) : mj_Ct G (mj_mt 281) 0 0 [.ref 1412, .int (jI i)] h (jR (.int (jI v.sign)) h) := by
  have hm := L.Md
  refine mj_Ct_of mj_ok tb_281 rfl rfl (Nat.le_of_ble_eq_true rfl) (fun Run hR => ?_)
  refine hR 60 0 _ _ _ _ _ _ rfl ?_
  refine ⟨fun c => ?_, fun c => ⟨L.K 1412 rfl, _, L.R 1412 38 _ rfl, Or.inl (L.K 1431 rfl), ?_, ?_⟩⟩
  · simp (disch := omega) only [mj_lcm, jI_lt, jI_le, jI_eq, jL_lt, jL_le, jL_eq, jI_lt0, jI_0le, jI_0lt, jI_le0, jI_eq0, jL_eq0, jI_L, jI_add, jI_sub, jI_mul, jI_neg, jL_add, jL_sub, jL_mul, jL_neg, jL_I, jI_div, jI_mod, jL_div, jL_mod] at c
    obtain ⟨n1, n2⟩ := hv.1 (by omega)
    refine ⟨hm.1, jcall (ct_222' G hm (by omega) n1 n2) ?_⟩
    by_cases z : v < 0
    · rw [if_pos z]
      refine ⟨fun c => absurd c (by decide), fun c => ?_⟩
      exact jRe (by rw [Int.sign_eq_neg_one_of_neg z])
    · rw [if_neg z]
      refine ⟨fun c => ⟨hm.1, jcallP (ct_219 G hm (by omega)) ?_⟩, fun c => absurd rfl c⟩
      rintro o h3 ⟨e3, n, rfl, m1, m2, m3⟩
      have e3' := e3.symm
      subst e3'
      have dz : ∀ {k : Nat}, k < 1100 → h.1 1439 (1100 * i + k) = 0 → dgt v k = 0 := by
        intro k hk e
        have h1 := dgt_rng v k
        have h2 := (n1 k hk).symm.trans e
        rwa [jI_eq0 (by omega) (by omega)] at h2
      refine ⟨fun c2 => ?_, fun c2 => ?_⟩
      · simp (disch := omega) only [mj_lcm, jI_lt, jI_le, jI_eq, jL_lt, jL_le, jL_eq, jI_lt0, jI_0le, jI_0lt, jI_le0, jI_eq0, jL_eq0, jI_L, jI_add, jI_sub, jI_mul, jI_neg, jL_add, jL_sub, jL_mul, jL_neg, jL_I, jI_div, jI_mod, jL_div, jL_mod] at c2
        have hv0 : v = 0 := by
          refine z_all (by omega) ?_ (fun k hk => dz hk (m2 k (by omega) hk))
          have hp := pB_pos 1099
          have e : pB 1100 = pB 1099 * 65536 := pB_s 1099
          have := n2.2
          omega
        rw [hv0]
        exact jRe rfl
      · simp (disch := omega) only [mj_lcm, jI_lt, jI_le, jI_eq, jL_lt, jL_le, jL_eq, jI_lt0, jI_0le, jI_0lt, jI_le0, jI_eq0, jL_eq0, jI_L, jI_add, jI_sub, jI_mul, jI_neg, jL_add, jL_sub, jL_mul, jL_neg, jL_I, jI_div, jI_mod, jL_div, jL_mod] at c2
        have hv0 : v ≠ 0 := by
          intro e
          rcases m3 with q | q
          · omega
          · apply q
            have h9 := n1 (n - 1) (by omega)
            rw [show dgt v (n - 1) = 0 by rw [e]; unfold dgt; rw [Int.zero_ediv]; rfl] at h9
            exact h9
        exact jRe (by rw [Int.sign_eq_one_of_pos (by omega)])
  · simp (disch := omega) only [mj_lcm, jI_lt, jI_le, jI_eq, jL_lt, jL_le, jL_eq, jI_lt0, jI_0le, jI_0lt, jI_le0, jI_eq0, jL_eq0, jI_L, jI_add, jI_sub, jI_mul, jI_neg, jL_add, jL_sub, jL_mul, jL_neg, jL_I, jI_div, jI_mod, jL_div, jL_mod] at c
    rw [jI_sub, show hN h 1431 = 512 from L.N 1430 rfl]
    exact jI_in (by omega) (by omega) (by omega)
  · simp (disch := omega) only [mj_lcm, jI_lt, jI_le, jI_eq, jL_lt, jL_le, jL_eq, jI_lt0, jI_0le, jI_0lt, jI_le0, jI_eq0, jL_eq0, jI_L, jI_add, jI_sub, jI_mul, jI_neg, jL_add, jL_sub, jL_mul, jL_neg, jL_I, jI_div, jI_mod, jL_div, jL_mod] at c
    refine jRe ?_
    rw [jI_sub, jI_nat (by omega) (by omega), show ((i : Int) - 12).toNat = i - 12 by omega]
    rw [(hv.2 (by omega)).1]
/-- FormHouseModel.wordAt(II)I; cuts at [] -/
def cl_284_1 : List mj_E := (38, false, .imul, 1, 0, 0, 0, 0, 0) ::
  (39, false, .iconst 1, 1, 0, 0, 0, jI 1, 0) ::
  (40, false, .iadd, 1, 0, 0, 0, 0, 0) ::
  (41, false, .invokevirtual 254, 3, 216, 2, 17, 0, 0) ::
  (44, false, .bipush 16, 2, 0, 0, 0, jI 16, 0) ::
  (46, false, .ishl, 1, 0, 0, 0, 0, 0) ::
  (47, false, .ior, 1, 0, 0, 0, 0, 0) ::
  (48, false, .ireturn, 1, 0, 0, 0, 0, 0) ::
  []
def cl_284_0 : List mj_E := (0, false, .iload_n 1, 1, 0, 0, 0, 0, 0) ::
  (1, false, .bipush 11, 2, 0, 0, 0, jI 11, 0) ::
  (3, false, .if_icmp .le 21, 3, 14, 0, 0, 0, 0) ::
  (6, false, .aload_n 0, 1, 0, 0, 0, 0, 0) ::
  (7, false, .getfield 89, 3, 17, 39, 2, 0, 0) ::
  (10, false, .sipush 512, 3, 0, 0, 0, jI 512, 0) ::
  (13, false, .iload_n 1, 1, 0, 0, 0, 0, 0) ::
  (14, false, .bipush 12, 2, 0, 0, 0, jI 12, 0) ::
  (16, false, .isub, 1, 0, 0, 0, 0, 0) ::
  (17, false, .imul, 1, 0, 0, 0, 0, 0) ::
  (18, false, .iload_n 2, 1, 0, 0, 0, 0, 0) ::
  (19, false, .iadd, 1, 0, 0, 0, 0, 0) ::
  (20, false, .iaload, 1, 0, 0, 0, 0, 0) ::
  (21, false, .goto 27, 3, 31, 0, 0, 0, 0) ::
  (24, false, .aload_n 0, 1, 0, 0, 0, 0, 0) ::
  (25, false, .bipush 14, 2, 0, 0, 0, jI 14, 0) ::
  (27, false, .iconst 2, 1, 0, 0, 0, jI 2, 0) ::
  (28, false, .iload_n 2, 1, 0, 0, 0, 0, 0) ::
  (29, false, .imul, 1, 0, 0, 0, 0, 0) ::
  (30, false, .invokevirtual 254, 3, 216, 2, 17, 0, 0) ::
  (33, false, .aload_n 0, 1, 0, 0, 0, 0, 0) ::
  (34, false, .bipush 14, 2, 0, 0, 0, jI 14, 0) ::
  (36, false, .iconst 2, 1, 0, 0, 0, jI 2, 0) ::
  (37, false, .iload_n 2, 1, 0, 0, 0, 0, 0) ::
  cl_284_1
def cd_284 : List mj_E := cl_284_0
def cx_284 : mj_X := (1, [], [])
theorem tb_284 : mj_tab (mj_mt 284) cx_284 cd_284 mj_mh [(0, 0, 0), (0, 0, 0), (0, 0, 0), (0, 0, 0), (7138, 0, 0), (0, 0, 0), (0, 0, 0), (0, 0, 0), (0, 0, 0), (0, 0, 0), (0, 0, 0), (0, 0, 0), (0, 0, 0), (0, 0, 0), (0, 0, 0), (0, 0, 0), (0, 0, 0), (0, 0, 0), (0, 0, 0), (7071, 0, 0), (0, 0, 0), (0, 0, 0), (0, 0, 0), (0, 0, 0), (0, 0, 0), (0, 0, 0), (0, 0, 0), (7071, 0, 0), (0, 0, 0), (0, 0, 0), (0, 0, 0), (0, 0, 0)] = true := mj_tab_f (by decide +kernel)
theorem ct_284 (G : mj_G) {h : mj_H} (L : isLam h) {i k : Nat} (hi : i < 524) (hk : k < 512) {v : Int} (hv : isTz h i v) : mj_Ct G (mj_mt 284) 0 0 [.ref 1412, .int (jI i), .int (jI k)] h (jR (.int (jI ((v.natAbs : Int) / pB (2 * k)))) h) := by
  have hm := L.Md
  refine mj_Ct_of mj_ok tb_284 rfl rfl (Nat.le_of_ble_eq_true rfl) (fun Run hR => ?_)
  refine hR 60 0 _ _ _ _ _ _ rfl ?_
  refine ⟨fun c => ?_, fun c => ⟨L.K 1412 rfl, _, L.R 1412 39 _ rfl, Or.inl (L.K 1432 rfl), ?_, ?_⟩⟩
  · simp (disch := omega) only [mj_lcm, jI_lt, jI_le, jI_eq, jL_lt, jL_le, jL_eq, jI_lt0, jI_0le, jI_0lt, jI_le0, jI_eq0, jL_eq0, jI_L, jI_add, jI_sub, jI_mul, jI_neg, jL_add, jL_sub, jL_mul, jL_neg, jL_I, jI_div, jI_mod, jL_div, jL_mod] at c
    have n1 := hv.1 (by omega)
    have e1 : jI 2 * jI (k : Int) = jI ((2 * k : Nat) : Int) := by
      rw [jI_mul]
      rfl
    have e2 : jI 2 * jI (k : Int) + jI 1 = jI ((2 * k + 1 : Nat) : Int) := by
      rw [jI_mul, jI_add]
      rfl
    have c1 := ct_216 G hm (i := 14) (k := 2 * k) (by omega) (by omega)
    have c2 := ct_216 G hm (i := 14) (k := 2 * k + 1) (by omega) (by omega)
    rw [← e1] at c1
    rw [← e2] at c2
    refine ⟨hm.1, jcall c1 ⟨hm.1, jcall c2 (jRe ?_)⟩⟩
    rw [n1 (2 * k) (by omega), n1 (2 * k + 1) (by omega)]
    have r0 := dgt_rng (v.natAbs : Int) (2 * k)
    have r1 := dgt_rng (v.natAbs : Int) (2 * k + 1)
    rw [jI_shl (K := 16) 16 (by decide) rfl, Int32.or_comm, jI_or (by decide) r0.1 (by omega)]
    congr 1
    exact jI_congr (wd2 _ _)
  · simp (disch := omega) only [mj_lcm, jI_lt, jI_le, jI_eq, jL_lt, jL_le, jL_eq, jI_lt0, jI_0le, jI_0lt, jI_le0, jI_eq0, jL_eq0, jI_L, jI_add, jI_sub, jI_mul, jI_neg, jL_add, jL_sub, jL_mul, jL_neg, jL_I, jI_div, jI_mod, jL_div, jL_mod] at c
    rw [jI_sub, jI_mul, jI_add, show hN h 1432 = 262144 from L.N 1431 rfl]
    exact jI_in (by omega) (by omega) (by omega)
  · simp (disch := omega) only [mj_lcm, jI_lt, jI_le, jI_eq, jL_lt, jL_le, jL_eq, jI_lt0, jI_0le, jI_0lt, jI_le0, jI_eq0, jL_eq0, jI_L, jI_add, jI_sub, jI_mul, jI_neg, jL_add, jL_sub, jL_mul, jL_neg, jL_I, jI_div, jI_mod, jL_div, jL_mod] at c
    refine jRe ?_
    rw [jI_sub, jI_mul, jI_add, jI_nat (by omega) (by omega), show ((512 : Int) * ((i : Int) - 12) + k).toNat = 512 * (i - 12) + k by omega]
    rw [hv.2 (by omega) k hk]
/-- FormHouseModel.isNumber(I)Z; cuts at [] -/
def cd_280 : List mj_E := [(0, false, .aload_n 0, 1, 0, 0, 0, 0, 0),
  (1, false, .iload_n 1, 1, 0, 0, 0, 0, 0),
  (2, false, .i2l, 1, 0, 0, 0, 0, 0),
  (3, false, .lconst 0, 1, 0, 0, 0, 0, jL 0),
  (4, false, .bipush 11, 2, 0, 0, 0, jI 11, 0),
  (6, false, .iconst 2, 1, 0, 0, 0, jI 2, 0),
  (7, false, .aload_n 0, 1, 0, 0, 0, 0, 0),
  (8, false, .getfield 288, 3, 17, 35, 0, 0, 0),
  (11, false, .imul, 1, 0, 0, 0, 0, 0),
  (12, false, .iadd, 1, 0, 0, 0, 0, 0),
  (13, false, .i2l, 1, 0, 0, 0, 0, 0),
  (14, false, .invokestatic 244, 3, 225, 3, 0, 0, 0),
  (17, false, .ifCond .eq 7, 3, 15, 0, 0, 0, 0),
  (20, false, .iconst 0, 1, 0, 0, 0, jI 0, 0),
  (21, false, .goto 4, 3, 16, 0, 0, 0, 0),
  (24, false, .iconst 1, 1, 0, 0, 0, jI 1, 0),
  (25, false, .putfield 120, 3, 17, 0, 0, 0, 0),
  (28, false, .aload_n 0, 1, 0, 0, 0, 0, 0),
  (29, false, .getfield 120, 3, 17, 0, 0, 0, 0),
  (32, false, .ifCond .ne 7, 3, 22, 0, 0, 0, 0),
  (35, false, .iconst 1, 1, 0, 0, 0, jI 1, 0),
  (36, false, .goto 4, 3, 23, 0, 0, 0, 0),
  (39, false, .iconst 0, 1, 0, 0, 0, jI 0, 0),
  (40, false, .ireturn, 1, 0, 0, 0, 0, 0)]
def cx_280 : mj_X := (4, [], [])
theorem tb_280 : mj_tab (mj_mt 280) cx_280 cd_280 mj_mh [(0, 0, 0), (0, 0, 0), (0, 0, 0), (0, 0, 0), (0, 0, 0), (0, 0, 0), (0, 0, 0), (7134, 0, 0), (0, 0, 0), (0, 0, 0), (0, 0, 0), (8044, 0, 0), (0, 0, 0), (0, 0, 0), (0, 0, 0), (0, 0, 0), (7099, 0, 0), (0, 0, 0), (7099, 0, 0), (0, 0, 0), (0, 0, 0), (0, 0, 0), (0, 0, 0), (0, 0, 0)] = true := mj_tab_f (by decide +kernel)
theorem ct_280 (G : mj_G) {h : mj_H} (L : isLam h) {f : Nat} (hf : hI h 1412 35 = jI f) (hf2 : f ≤ 256) {i : Int} (hi : -2147483648 ≤ i ∧ i < 2147483648) : mj_Ct G (mj_mt 280) 0 0 [.ref 1412, .int (jI i)] h (jW (.int (jI (if 0 ≤ i ∧ i < 12 + 2 * f then 1 else 0))) (sI h 1412 0 (jI (if 0 ≤ i ∧ i < 12 + 2 * f then 0 else 1)))) := by
  have k := L.K 1412 rfl
  have e1 : (jI 11 + jI 2 * hI h 1412 35).toInt64 = jL (11 + 2 * (f : Int)) := by
    rw [hf, jI_mul, jI_add, jI_L (by omega) (by omega)]
  have e2 : (jI i).toInt64 = jL i := jI_L (by omega) (by omega)
  have c225 := ct_225 G (v := i) (a := 0) (b := 11 + 2 * (f : Int)) (by omega) (by omega) (by omega) (by omega) (by omega) (by omega) h
  rw [← e1, ← e2] at c225
  refine mj_Ct_of mj_ok tb_280 rfl rfl (Nat.le_of_ble_eq_true rfl) (fun Run hR => ?_)
  refine hR 60 0 _ _ _ _ _ _ rfl ?_
  refine ⟨k, jcall c225 ?_⟩
  by_cases z : 0 ≤ i ∧ i < 12 + 2 * f
  · rw [if_pos z, if_pos z, if_pos (by omega)]
    refine ⟨fun c => absurd c (by decide), fun c => ⟨k, k, fun c2 => ⟨Or.inr rfl, jWe rfl⟩, fun c2 => ?_⟩⟩
    exact absurd (sI_at _ _ _ _) c2
  · rw [if_neg z, if_neg z, if_neg (by omega)]
    refine ⟨fun c => ⟨k, k, fun c2 => ?_, fun c2 => ⟨Or.inl rfl, jWe rfl⟩⟩, fun c => absurd rfl c⟩
    have c3 : hI (sI h 1412 0 (jI 1)) 1412 0 = 0 := c2
    rw [sI_at] at c3
    exact absurd c3 (by decide)
/-- FormHouseModel.isFamily(I)Z; cuts at [] -/
def cd_276 : List mj_E := [(0, false, .aload_n 0, 1, 0, 0, 0, 0, 0),
  (1, false, .iload_n 1, 1, 0, 0, 0, 0, 0),
  (2, false, .i2l, 1, 0, 0, 0, 0, 0),
  (3, false, .lconst 0, 1, 0, 0, 0, 0, jL 0),
  (4, false, .aload_n 0, 1, 0, 0, 0, 0, 0),
  (5, false, .getfield 288, 3, 17, 35, 0, 0, 0),
  (8, false, .iconst 1, 1, 0, 0, 0, jI 1, 0),
  (9, false, .isub, 1, 0, 0, 0, 0, 0),
  (10, false, .i2l, 1, 0, 0, 0, 0, 0),
  (11, false, .invokestatic 244, 3, 225, 3, 0, 0, 0),
  (14, false, .ifCond .eq 7, 3, 13, 0, 0, 0, 0),
  (17, false, .iconst 0, 1, 0, 0, 0, jI 0, 0),
  (18, false, .goto 4, 3, 14, 0, 0, 0, 0),
  (21, false, .iconst 1, 1, 0, 0, 0, jI 1, 0),
  (22, false, .putfield 120, 3, 17, 0, 0, 0, 0),
  (25, false, .aload_n 0, 1, 0, 0, 0, 0, 0),
  (26, false, .getfield 120, 3, 17, 0, 0, 0, 0),
  (29, false, .ifCond .ne 7, 3, 20, 0, 0, 0, 0),
  (32, false, .iconst 1, 1, 0, 0, 0, jI 1, 0),
  (33, false, .goto 4, 3, 21, 0, 0, 0, 0),
  (36, false, .iconst 0, 1, 0, 0, 0, jI 0, 0),
  (37, false, .ireturn, 1, 0, 0, 0, 0, 0)]
def cx_276 : mj_X := (4, [], [])
theorem tb_276 : mj_tab (mj_mt 276) cx_276 cd_276 mj_mh [(0, 0, 0), (0, 0, 0), (0, 0, 0), (0, 0, 0), (0, 0, 0), (7134, 0, 0), (0, 0, 0), (0, 0, 0), (0, 0, 0), (8044, 0, 0), (0, 0, 0), (0, 0, 0), (0, 0, 0), (0, 0, 0), (7099, 0, 0), (0, 0, 0), (7099, 0, 0), (0, 0, 0), (0, 0, 0), (0, 0, 0), (0, 0, 0), (0, 0, 0)] = true := mj_tab_f (by decide +kernel)
theorem ct_276 (G : mj_G) {h : mj_H} (L : isLam h) {f : Nat} (hf : hI h 1412 35 = jI f) (hf2 : f ≤ 256) {i : Int} (hi : -2147483648 ≤ i ∧ i < 2147483648) : mj_Ct G (mj_mt 276) 0 0 [.ref 1412, .int (jI i)] h (jW (.int (jI (if 0 ≤ i ∧ i < f then 1 else 0))) (sI h 1412 0 (jI (if 0 ≤ i ∧ i < f then 0 else 1)))) := by
  have k := L.K 1412 rfl
  have e1 : (hI h 1412 35 - jI 1).toInt64 = jL ((f : Int) - 1) := by
    rw [hf, jI_sub, jI_L (by omega) (by omega)]
  have e2 : (jI i).toInt64 = jL i := jI_L (by omega) (by omega)
  have c225 := ct_225 G (v := i) (a := 0) (b := (f : Int) - 1) (by omega) (by omega) (by omega) (by omega) (by omega) (by omega) h
  rw [← e1, ← e2] at c225
  refine mj_Ct_of mj_ok tb_276 rfl rfl (Nat.le_of_ble_eq_true rfl) (fun Run hR => ?_)
  refine hR 60 0 _ _ _ _ _ _ rfl ?_
  refine ⟨k, jcall c225 ?_⟩
  by_cases z : 0 ≤ i ∧ i < f
  · rw [if_pos z, if_pos z, if_pos (by omega)]
    refine ⟨fun c => absurd c (by decide), fun c => ⟨k, k, fun c2 => ⟨Or.inr rfl, jWe rfl⟩, fun c2 => ?_⟩⟩
    exact absurd (sI_at _ _ _ _) c2
  · rw [if_neg z, if_neg z, if_neg (by omega)]
    refine ⟨fun c => ⟨k, k, fun c2 => ?_, fun c2 => ⟨Or.inl rfl, jWe rfl⟩⟩, fun c => absurd rfl c⟩
    have c3 : hI (sI h 1412 0 (jI 1)) 1412 0 = 0 := c2
    rw [sI_at] at c3
    exact absurd c3 (by decide)
/-- an answer r of the model, with the code k -/
def jA (r : Int) (k : Int) (h : mj_H) : mj_Q := fun o h' => o = .returned (some (.int (jI r))) ∧ hI h' 1412 0 = jI k ∧ FrT h h'
/-- FormHouseModel.sign(I)I; cuts at [] -/
def cd_279 : List mj_E := [(0, false, .aload_n 0, 1, 0, 0, 0, 0, 0),
  (1, false, .iload_n 1, 1, 0, 0, 0, 0, 0),
  (2, false, .invokevirtual 457, 3, 280, 1, 17, 0, 0),
  (5, false, .ifCond .eq 11, 3, 8, 0, 0, 0, 0),
  (8, false, .aload_n 0, 1, 0, 0, 0, 0, 0),
  (9, false, .iload_n 1, 1, 0, 0, 0, 0, 0),
  (10, false, .invokevirtual 460, 3, 281, 1, 17, 0, 0),
  (13, false, .goto 4, 3, 9, 0, 0, 0, 0),
  (16, false, .iconst 0, 1, 0, 0, 0, jI 0, 0),
  (17, false, .ireturn, 1, 0, 0, 0, 0, 0)]
def cx_279 : mj_X := (1, [], [])
theorem tb_279 : mj_tab (mj_mt 279) cx_279 cd_279 mj_mh [(0, 0, 0), (0, 0, 0), (9032, 0, 0), (0, 0, 0), (0, 0, 0), (0, 0, 0), (9036, 0, 0), (0, 0, 0), (0, 0, 0), (0, 0, 0)] = true := mj_tab_f (by decide +kernel)
theorem ct_279 (G : mj_G) {h : mj_H} (L : isLam h) {f : Nat} (hf : hI h 1412 35 = jI f) (hf2 : f ≤ 256) {i : Int} (hi : -2147483648 ≤ i ∧ i < 2147483648) {V : Nat → Int} (hV : ∀ j, j < 12 + 2 * f → isTn h j (V j)) : mj_Ct G (mj_mt 279) 0 0 [.ref 1412, .int (jI i)] h (if 0 ≤ i ∧ i < 12 + 2 * f then jA (V i.toNat).sign 0 h else jA 0 1 h) := by
  refine mj_Ct_of mj_ok tb_279 rfl rfl (Nat.le_of_ble_eq_true rfl) (fun Run hR => ?_)
  refine hR 60 0 _ _ _ _ _ _ rfl ?_
  refine ⟨L.K 1412 rfl, jcallW (ct_280 G L hf hf2 hi) ?_⟩
  by_cases z : 0 ≤ i ∧ i < 12 + 2 * f
  · have F := FrT.code h (jI 0)
    have c281 := ct_281 G (F.1.lay L) (i := i.toNat) (by omega) (F.tn (hV i.toNat (by omega)))
    rw [show ((i.toNat : Nat) : Int) = i by omega] at c281
    rw [if_pos z, if_pos z, if_pos z]
    refine ⟨fun c => absurd c (by decide), fun c => ⟨(F.1.lay L).K 1412 rfl, jcall c281 ?_⟩⟩
    exact ⟨rfl, sI_at _ _ _ _, F⟩
  · rw [if_neg z, if_neg z, if_neg z]
    refine ⟨fun c => ?_, fun c => absurd rfl c⟩
    exact ⟨rfl, sI_at _ _ _ _, FrT.code h (jI 1)⟩
