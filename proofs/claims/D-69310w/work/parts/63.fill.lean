/-! contract: the table is filled -/
def flF (d : Int) : Nat → Int → List Fm
  | 0, _ => []
  | k + 1, b => if b < 0 then [] else ptFs d b ++ flF d k (b - 2)
def mostP (d w m : Int) : Prop := (0 < d ∧ m = w ∧ 0 ≤ m) ∨ (d < 0 ∧ 0 ≤ m ∧ 3 * m * m ≤ -d ∧ -d < 3 * (m + 1) * (m + 1))
def b0E (d m : Int) : Int := if m.tmod 2 = d % 2 then m else m - 1
def rawL (d w m : Int) : List pI := gdL d w (flF d 600 (b0E d m))
def aL (l : List pI) (i : Nat) : pI := (l[i]?).getD (0, 0)
theorem isTl.ta {h : mj_H} {l : List pI} (a : isTl h l) : isTa h l.length (aL l) := by
  obtain ⟨a1, a2, a3⟩ := a
  refine ⟨a1, a2, fun i hi => ?_⟩
  have : l[i]? = some (aL l i) := by
    unfold aL
    rw [List.getElem?_eq_getElem hi]
    rfl
  exact a3 i _ this
/-- classes, as the walks make them -/
def clSt (nxt : Nat → Nat) (n : Nat) : Nat → (Nat → Int) × Nat × (Nat → Nat)
  | 0 => (fun _ => -1, 0, fun _ => 0)
  | k + 1 => if (clSt nxt n k).1 k = -1 then (wkC nxt (clSt nxt n k).2.1 (n + 1) k (clSt nxt n k).1, (clSt nxt n k).2.1 + 1, upN (clSt nxt n k).2.2 (clSt nxt n k).2.1 k) else clSt nxt n k
theorem wkC_rng {nxt : Nat → Nat} {c : Int} (hc : -1 ≤ c ∧ c < 32768) : ∀ (f at' : Nat) (cls : Nat → Int), (∀ i, -1 ≤ cls i ∧ cls i < 32768) → ∀ i, -1 ≤ wkC nxt c f at' cls i ∧ wkC nxt c f at' cls i < 32768
  | 0, _, _, h => h
  | f + 1, at', cls, h => by
    intro i
    show -1 ≤ (if cls at' = -1 then wkC nxt c f (nxt at') (upN cls at' c) else cls) i ∧ (if cls at' = -1 then wkC nxt c f (nxt at') (upN cls at' c) else cls) i < 32768
    split
    · refine wkC_rng hc f _ _ (fun j => ?_) i
      unfold upN
      split
      · exact hc
      · exact h j
    · exact h i
theorem clSt_s (nxt : Nat → Nat) (n k : Nat) : clSt nxt n (k + 1) = if (clSt nxt n k).1 k = -1 then (wkC nxt (clSt nxt n k).2.1 (n + 1) k (clSt nxt n k).1, (clSt nxt n k).2.1 + 1, upN (clSt nxt n k).2.2 (clSt nxt n k).2.1 k) else clSt nxt n k := rfl
theorem clSt_rng {nxt : Nat → Nat} {n : Nat} : ∀ k, (∀ j, j ≤ k → (clSt nxt n j).2.1 ≤ 4096) → ∀ i, -1 ≤ (clSt nxt n k).1 i ∧ (clSt nxt n k).1 i < 32768
  | 0, _ => fun i => by
    show -1 ≤ (-1 : Int) ∧ (-1 : Int) < 32768
    decide
  | k + 1, h => by
    have ih := clSt_rng k (fun j hj => h j (by omega))
    have hk := h k (by omega)
    intro i
    rw [clSt_s]
    split
    · exact wkC_rng (by omega) _ _ _ ih i
    · exact ih i
theorem isCl.fr {h h' : mj_H} {n cnt : Nat} {cls : Nat → Int} {nm : Nat → Nat} (a : isCl h n cls cnt nm) (e1 : hI h' 46 5 = hI h 46 5) (e2 : h'.1 49 = h.1 49) (e3 : h'.1 50 = h.1 50) : isCl h' n cls cnt nm := by
  obtain ⟨a1, a2, a3⟩ := a
  exact ⟨e1.trans a1, fun i hi => (congrFun e2 i).trans (a2 i hi), fun i hi => (congrFun e3 i).trans (a3 i hi)⟩
abbrev inT2 (a : Nat) : Prop := 46 ≤ a ∧ a ≤ 51
theorem flF_neg {d : Int} {k : Nat} {b : Int} (h : b < 0) : flF d k b = [] := by
  cases k with
  | zero => rfl
  | succ k =>
    show (if b < 0 then [] else _) = _
    rw [if_pos h]
/-- FormHouse$Table.fill()V; cuts at [10, 18, 36, 66, 87, 111, 118, 141, 144, 170] -/
def cl_62_4 : List mj_E := (165, false, .iload 5, 2, 0, 0, 0, 0, 0) ::
  (167, false, .invokevirtual 64, 3, 71, 1, 7, 0, 0) ::
  (170, true, .iinc 5 1, 3, 0, 0, 0, jI 1, 0) ::
  (173, false, .goto (-29), 3, 85, 0, 0, 0, 0) ::
  (176, false, .return_, 1, 0, 0, 0, 0, 0) ::
  []
def cl_62_3 : List mj_E := (118, true, .iload 5, 2, 0, 0, 0, 0, 0) ::
  (120, false, .aload_n 0, 1, 0, 0, 0, 0, 0) ::
  (121, false, .getfield 37, 3, 7, 1, 0, 0, 0) ::
  (124, false, .if_icmp .ge 17, 3, 83, 0, 0, 0, 0) ::
  (127, false, .aload_n 0, 1, 0, 0, 0, 0, 0) ::
  (128, false, .getfield 19, 3, 7, 4, 2, 0, 0) ::
  (131, false, .iload 5, 2, 0, 0, 0, 0, 0) ::
  (133, false, .iconst (-1), 1, 0, 0, 0, jI (-1), 0) ::
  (134, false, .sastore, 1, 0, 0, 0, 0, 0) ::
  (135, false, .iinc 5 1, 3, 0, 0, 0, jI 1, 0) ::
  (138, false, .goto (-20), 3, 72, 0, 0, 0, 0) ::
  (141, true, .iconst 0, 1, 0, 0, 0, jI 0, 0) ::
  (142, false, .istore 5, 2, 0, 0, 0, 0, 0) ::
  (144, true, .iload 5, 2, 0, 0, 0, 0, 0) ::
  (146, false, .aload_n 0, 1, 0, 0, 0, 0, 0) ::
  (147, false, .getfield 37, 3, 7, 1, 0, 0, 0) ::
  (150, false, .if_icmp .ge 26, 3, 100, 0, 0, 0, 0) ::
  (153, false, .aload_n 0, 1, 0, 0, 0, 0, 0) ::
  (154, false, .getfield 19, 3, 7, 4, 2, 0, 0) ::
  (157, false, .iload 5, 2, 0, 0, 0, 0, 0) ::
  (159, false, .saload, 1, 0, 0, 0, 0, 0) ::
  (160, false, .iconst (-1), 1, 0, 0, 0, jI (-1), 0) ::
  (161, false, .if_icmp .ne 9, 3, 98, 0, 0, 0, 0) ::
  (164, false, .aload_n 0, 1, 0, 0, 0, 0, 0) ::
  cl_62_4
def cl_62_2 : List mj_E := (74, false, .lcmp, 1, 0, 0, 0, 0, 0) ::
  (75, false, .ifCond .ne 7, 3, 52, 0, 0, 0, 0) ::
  (78, false, .lload_n 3, 1, 0, 0, 0, 0, 0) ::
  (79, false, .goto 6, 3, 55, 0, 0, 0, 0) ::
  (82, false, .lload_n 3, 1, 0, 0, 0, 0, 0) ::
  (83, false, .lconst 1, 1, 0, 0, 0, 0, jL 1) ::
  (84, false, .lsub, 1, 0, 0, 0, 0, 0) ::
  (85, false, .lstore 5, 2, 0, 0, 0, 0, 0) ::
  (87, true, .lload 5, 2, 0, 0, 0, 0, 0) ::
  (89, false, .lconst 0, 1, 0, 0, 0, 0, jL 0) ::
  (90, false, .lcmp, 1, 0, 0, 0, 0, 0) ::
  (91, false, .ifCond .lt 20, 3, 68, 0, 0, 0, 0) ::
  (94, false, .aload_n 0, 1, 0, 0, 0, 0, 0) ::
  (95, false, .lload 5, 2, 0, 0, 0, 0, 0) ::
  (97, false, .invokevirtual 57, 3, 63, 1, 7, 0, 0) ::
  (100, false, .lload 5, 2, 0, 0, 0, 0, 0) ::
  (102, false, .ldc2_w 55, 3, 0, 0, 0, 0, jL 2) ::
  (105, false, .lsub, 1, 0, 0, 0, 0, 0) ::
  (106, false, .lstore 5, 2, 0, 0, 0, 0, 0) ::
  (108, false, .goto (-21), 3, 56, 0, 0, 0, 0) ::
  (111, true, .aload_n 0, 1, 0, 0, 0, 0, 0) ::
  (112, false, .invokevirtual 61, 3, 69, 0, 7, 0, 0) ::
  (115, false, .iconst 0, 1, 0, 0, 0, jI 0, 0) ::
  (116, false, .istore 5, 2, 0, 0, 0, 0, 0) ::
  cl_62_3
def cl_62_1 : List mj_E := (42, false, .ldc2_w 53, 3, 0, 0, 0, 0, jL 3) ::
  (45, false, .lload_n 3, 1, 0, 0, 0, 0, 0) ::
  (46, false, .lconst 1, 1, 0, 0, 0, 0, jL 1) ::
  (47, false, .ladd, 1, 0, 0, 0, 0, 0) ::
  (48, false, .lmul, 1, 0, 0, 0, 0, 0) ::
  (49, false, .lload_n 3, 1, 0, 0, 0, 0, 0) ::
  (50, false, .lconst 1, 1, 0, 0, 0, 0, jL 1) ::
  (51, false, .ladd, 1, 0, 0, 0, 0, 0) ::
  (52, false, .lmul, 1, 0, 0, 0, 0, 0) ::
  (53, false, .lload_n 1, 1, 0, 0, 0, 0, 0) ::
  (54, false, .lneg, 1, 0, 0, 0, 0, 0) ::
  (55, false, .lcmp, 1, 0, 0, 0, 0, 0) ::
  (56, false, .ifCond .gt 10, 3, 42, 0, 0, 0, 0) ::
  (59, false, .lload_n 3, 1, 0, 0, 0, 0, 0) ::
  (60, false, .lconst 1, 1, 0, 0, 0, 0, jL 1) ::
  (61, false, .ladd, 1, 0, 0, 0, 0, 0) ::
  (62, false, .lstore_n 3, 1, 0, 0, 0, 0, 0) ::
  (63, false, .goto (-27), 3, 20, 0, 0, 0, 0) ::
  (66, true, .lload_n 3, 1, 0, 0, 0, 0, 0) ::
  (67, false, .ldc2_w 55, 3, 0, 0, 0, 0, jL 2) ::
  (70, false, .lrem, 1, 0, 0, 0, 0, 0) ::
  (71, false, .lload_n 1, 1, 0, 0, 0, 0, 0) ::
  (72, false, .lconst 1, 1, 0, 0, 0, 0, jL 1) ::
  (73, false, .land, 1, 0, 0, 0, 0, 0) ::
  cl_62_2
def cl_62_0 : List mj_E := (0, false, .aload_n 0, 1, 0, 0, 0, 0, 0) ::
  (1, false, .iconst 0, 1, 0, 0, 0, jI 0, 0) ::
  (2, false, .putfield 37, 3, 7, 1, 0, 0, 0) ::
  (5, false, .aload_n 0, 1, 0, 0, 0, 0, 0) ::
  (6, false, .iconst 0, 1, 0, 0, 0, jI 0, 0) ::
  (7, false, .putfield 41, 3, 7, 5, 0, 0, 0) ::
  (10, true, .aload_n 0, 1, 0, 0, 0, 0, 0) ::
  (11, false, .getfield 33, 3, 7, 0, 2, 0, 0) ::
  (14, false, .getfield 44, 3, 3, 0, 1, 0, 0) ::
  (17, false, .lstore_n 1, 1, 0, 0, 0, 0, 0) ::
  (18, true, .lload_n 1, 1, 0, 0, 0, 0, 0) ::
  (19, false, .lconst 0, 1, 0, 0, 0, 0, jL 0) ::
  (20, false, .lcmp, 1, 0, 0, 0, 0, 0) ::
  (21, false, .ifCond .ge 7, 3, 16, 0, 0, 0, 0) ::
  (24, false, .lconst 0, 1, 0, 0, 0, 0, jL 0) ::
  (25, false, .goto 10, 3, 19, 0, 0, 0, 0) ::
  (28, false, .aload_n 0, 1, 0, 0, 0, 0, 0) ::
  (29, false, .getfield 33, 3, 7, 0, 2, 0, 0) ::
  (32, false, .getfield 50, 3, 3, 1, 1, 0, 0) ::
  (35, false, .lstore_n 3, 1, 0, 0, 0, 0, 0) ::
  (36, true, .lload_n 1, 1, 0, 0, 0, 0, 0) ::
  (37, false, .lconst 0, 1, 0, 0, 0, 0, jL 0) ::
  (38, false, .lcmp, 1, 0, 0, 0, 0, 0) ::
  (39, false, .ifCond .ge 27, 3, 42, 0, 0, 0, 0) ::
  cl_62_1
def cd_62 : List mj_E := cl_62_0
def cx_62 : mj_X := (0, [], [])
theorem tb_62 : mj_tab (mj_mt 62) cx_62 cd_62 mj_mh [(0, 0, 0), (0, 0, 0), (1234, 0, 0), (0, 0, 0), (0, 0, 0), (1239, 0, 0), (0, 0, 0), (1232, 0, 0), (1071, 0, 0), (0, 0, 0), (0, 0, 0), (0, 0, 0), (0, 0, 0), (0, 0, 0), (0, 0, 0), (0, 0, 0), (0, 0, 0), (1232, 0, 0), (1078, 0, 0), (0, 0, 0), (0, 0, 0), (0, 0, 0), (0, 0, 0), (0, 0, 0), (4041, 0, 0), (0, 0, 0), (0, 0, 0), (0, 0, 0), (0, 0, 0), (0, 0, 0), (0, 0, 0), (0, 0, 0), (0, 0, 0), (0, 0, 0), (0, 0, 0), (0, 0, 0), (0, 0, 0), (0, 0, 0), (0, 0, 0), (0, 0, 0), (0, 0, 0), (0, 0, 0), (0, 0, 0), (4042, 0, 0), (0, 0, 0), (0, 0, 0), (0, 0, 0), (0, 0, 0), (0, 0, 0), (0, 0, 0), (0, 0, 0), (0, 0, 0), (0, 0, 0), (0, 0, 0), (0, 0, 0), (0, 0, 0), (0, 0, 0), (0, 0, 0), (0, 0, 0), (0, 0, 0), (0, 0, 0), (0, 0, 0), (4043, 0, 0), (0, 0, 0), (4042, 0, 0), (0, 0, 0), (0, 0, 0), (0, 0, 0), (0, 0, 0), (4070, 0, 0), (0, 0, 0), (0, 0, 0), (0, 0, 0), (0, 0, 0), (1234, 0, 0), (0, 0, 0), (0, 0, 0), (1238, 0, 0), (0, 0, 0), (0, 0, 0), (0, 0, 0), (0, 0, 0), (0, 0, 0), (0, 0, 0), (0, 0, 0), (0, 0, 0), (0, 0, 0), (1234, 0, 0), (0, 0, 0), (0, 0, 0), (1238, 0, 0), (0, 0, 0), (0, 0, 0), (0, 0, 0), (0, 0, 0), (0, 0, 0), (0, 0, 0), (4078, 0, 0), (0, 0, 0), (0, 0, 0), (0, 0, 0)] = true := mj_tab_f (by decide +kernel)
theorem ct_62 (G : mj_G) {h : mj_H} (L : isLay h) {d w m : Int} (hr : isRr h 7 d w) (hd : -1048576 ≤ d ∧ d ≤ 1048576 ∧ d ≠ 0) (hw : -1 ≤ w ∧ w ≤ 1024) (hm : mostP d w m) (hmb : m ≤ 1024) {n : Nat} {FA : Nat → pI} {nxt : Nat → Nat} (hn : (rawL d w m).length = n) (hn2 : n ≤ 40960) (hsort : ∀ B, PermN n (aL (rawL d w m)) B → srt n B → ∀ i, i < n → B i = FA i) (hS : sst n FA) (hx : isNx d w n FA nxt) (hcnt : ∀ k, k ≤ n → (clSt nxt n k).2.1 ≤ 4096) : mj_Ct G (mj_mt 62) 0 0 [.ref 46] h (fun o h' => o = .returned none ∧ isTa h' n FA ∧ isCl h' n (clSt nxt n n).1 (clSt nxt n n).2.1 (clSt nxt n n).2.2 ∧ Fr inT2 noT h h') := by
  refine mj_Ct_of mj_ok tb_62 rfl rfl (Nat.le_of_ble_eq_true rfl) (fun Run hR => ?_)
  -- classes are made
  have r170 : ∀ (k : Nat) (h' : mj_H) (dL mL : Int64) (x6 : Option Value), (∀ (kI : Int32) (x6 : Option Value), kI = jI ((k + 1 : Nat) : Int) → Run 144 [some (.ref 46), some (.long dL), none, some (.long mL), none, some (.int kI), x6] [] h' (0, 0)) → Run 170 [some (.ref 46), some (.long dL), none, some (.long mL), none, some (.int (jI k)), x6] [] h' (0, 0) := by
    intro k h' dL mL x6 hh
    refine hR 60 98 _ _ _ _ _ _ rfl ?_
    exact hh _ _ (jI_add _ _)
  have r144 : ∀ (j k : Nat) (kI : Int32) (h' : mj_H) (dL mL : Int64) (x6 : Option Value), k + j = n → isTa h' n FA → isCl h' n (clSt nxt n k).1 (clSt nxt n k).2.1 (clSt nxt n k).2.2 → isRr h' 7 d w → Fr inT2 noT h h' → kI = jI k → Run 144 [some (.ref 46), some (.long dL), none, some (.long mL), none, some (.int kI), x6] [] h' (0, 0) := by
    intro j
    induction j with
    | zero =>
      rintro k kI h' dL mL x6 hk hA hC hr' F rfl
      have L0 := L.F F (fun _ z => z.elim)
      have : k = n := by omega
      subst this
      refine hR 60 85 _ _ _ _ _ _ rfl ?_
      refine ⟨L0.K 46 rfl, ?_⟩
      rw [hA.1]
      refine ⟨fun c => ⟨rfl, hA, hC, F⟩, fun c => ?_⟩
      simp (disch := omega) only [mj_lcm, jI_lt, jI_le, jI_eq, jL_lt, jL_le, jL_eq, jI_lt0, jI_0le, jI_0lt, jI_le0, jI_eq0, jL_eq0, jI_L, jI_add, jI_sub, jI_mul, jI_neg, jL_add, jL_sub, jL_mul, jL_neg, jL_I, jI_div, jI_mod, jL_div, jL_mod] at c
      omega
    | succ j ih =>
      rintro k kI h' dL mL x6 hk hA hC hr' F rfl
      have L0 := L.F F (fun _ z => z.elim)
      have hrg := clSt_rng (nxt := nxt) (n := n) k (fun i hi => hcnt i (by omega))
      have vin : vp_in (jI k) (hN h' 49) := by
        rw [show hN h' 49 = 40960 from L0.N 48 rfl]
        exact jI_in (by omega) (by omega) (by omega)
      have nat : (jI (k : Int)).toNatClampNeg = k := by rw [jI_nat (by omega) (by omega), Int.toNat_natCast]
      have hrk := hrg k
      refine hR 60 85 _ _ _ _ _ _ rfl ?_
      refine ⟨L0.K 46 rfl, ?_⟩
      rw [hA.1]
      refine ⟨fun c => ?_, fun c => ?_⟩
      · simp (disch := omega) only [mj_lcm, jI_lt, jI_le, jI_eq, jL_lt, jL_le, jL_eq, jI_lt0, jI_0le, jI_0lt, jI_le0, jI_eq0, jL_eq0, jI_L, jI_add, jI_sub, jI_mul, jI_neg, jL_add, jL_sub, jL_mul, jL_neg, jL_I, jI_div, jI_mod, jL_div, jL_mod] at c
        omega
      · refine ⟨L0.K 46 rfl, _, L0.R 46 4 _ rfl, L0.K 49 rfl, vin, ?_⟩
        rw [nat, hC.2.1 k (by omega)]
        refine ⟨fun c2 => ?_, fun c2 => ?_⟩
        · simp (disch := omega) only [mj_lcm, jI_lt, jI_le, jI_eq, jL_lt, jL_le, jL_eq, jI_lt0, jI_0le, jI_0lt, jI_le0, jI_eq0, jL_eq0, jI_L, jI_add, jI_sub, jI_mul, jI_neg, jL_add, jL_sub, jL_mul, jL_neg, jL_I, jI_div, jI_mod, jL_div, jL_mod] at c2
          have est : clSt nxt n (k + 1) = (wkC nxt (clSt nxt n k).2.1 (n + 1) k (clSt nxt n k).1, (clSt nxt n k).2.1 + 1, upN (clSt nxt n k).2.2 (clSt nxt n k).2.1 k) := by
            show (if (clSt nxt n k).1 k = -1 then _ else _) = _
            rw [if_pos c2]
          have hc1 := hcnt (k + 1) (by omega)
          rw [est] at hc1
          simp only at hc1
          refine ⟨L0.K 46 rfl, jcallP (ct_71 G L0 hA hS hr' (by omega) (by omega) hx hC (fun i _ => hrg i) (by omega) (k := k) (by omega)) ?_⟩
          rintro o h2 ⟨rfl, hC2, hA2, F2⟩
          refine r170 k h2 dL mL _ (fun kI x6 e => ?_)
          refine ih (k + 1) kI h2 dL mL x6 (by omega) hA2 ?_ (hr'.F F2 (by omega)) (F.trans (F2.mono (by intro a z; omega) (fun _ z => z))) e
          rw [est]
          exact hC2
        · simp (disch := omega) only [mj_lcm, jI_lt, jI_le, jI_eq, jL_lt, jL_le, jL_eq, jI_lt0, jI_0le, jI_0lt, jI_le0, jI_eq0, jL_eq0, jI_L, jI_add, jI_sub, jI_mul, jI_neg, jL_add, jL_sub, jL_mul, jL_neg, jL_I, jI_div, jI_mod, jL_div, jL_mod] at c2
          refine r170 k h' dL mL _ (fun kI x6 e => ?_)
          refine ih (k + 1) kI h' dL mL x6 (by omega) hA ?_ hr' F e
          have est : clSt nxt n (k + 1) = clSt nxt n k := by
            show (if (clSt nxt n k).1 k = -1 then _ else _) = _
            rw [if_neg c2]
          rw [est]
          exact hC
  -- none has a class yet
  have r118 : ∀ (j k : Nat) (kI : Int32) (h' : mj_H) (dL mL : Int64) (x6 : Option Value), k + j = n → isTa h' n FA → hI h' 46 5 = jI 0 → (∀ i, i < k → hI h' 49 i = jI (-1)) → isRr h' 7 d w → Fr inT2 noT h h' → kI = jI k → Run 118 [some (.ref 46), some (.long dL), none, some (.long mL), none, some (.int kI), x6] [] h' (0, 0) := by
    intro j
    induction j with
    | zero =>
      rintro k kI h' dL mL x6 hk hA h5 h9 hr' F rfl
      have L0 := L.F F (fun _ z => z.elim)
      refine hR 60 72 _ _ _ _ _ _ rfl ?_
      refine ⟨L0.K 46 rfl, ?_⟩
      rw [hA.1]
      refine ⟨fun c => ?_, fun c => ?_⟩
      · refine hR 60 83 _ _ _ _ _ _ rfl ?_
        refine r144 n 0 _ h' dL mL _ (by omega) hA ⟨h5, fun i hi => h9 i (by omega), fun i hi => ?_⟩ hr' F rfl
        exact absurd hi (Nat.not_lt_zero i)
      · simp (disch := omega) only [mj_lcm, jI_lt, jI_le, jI_eq, jL_lt, jL_le, jL_eq, jI_lt0, jI_0le, jI_0lt, jI_le0, jI_eq0, jL_eq0, jI_L, jI_add, jI_sub, jI_mul, jI_neg, jL_add, jL_sub, jL_mul, jL_neg, jL_I, jI_div, jI_mod, jL_div, jL_mod] at c
        omega
    | succ j ih =>
      rintro k kI h' dL mL x6 hk hA h5 h9 hr' F rfl
      have L0 := L.F F (fun _ z => z.elim)
      refine hR 60 72 _ _ _ _ _ _ rfl ?_
      refine ⟨L0.K 46 rfl, ?_⟩
      rw [hA.1]
      refine ⟨fun c => ?_, fun c => ?_⟩
      · simp (disch := omega) only [mj_lcm, jI_lt, jI_le, jI_eq, jL_lt, jL_le, jL_eq, jI_lt0, jI_0le, jI_0lt, jI_le0, jI_eq0, jL_eq0, jI_L, jI_add, jI_sub, jI_mul, jI_neg, jL_add, jL_sub, jL_mul, jL_neg, jL_I, jI_div, jI_mod, jL_div, jL_mod] at c
        omega
      · refine ⟨L0.K 46 rfl, _, L0.R 46 4 _ rfl, L0.K 49 rfl, ?_, ?_⟩
        · rw [show hN h' 49 = 40960 from L0.N 48 rfl]
          exact jI_in (by omega) (by omega) (by omega)
        · rw [jI_nat (by omega) (by omega), Int.toNat_natCast, jI_s (by decide) (by decide)]
          have q1 : Fr (fun a => a = 49) noT h' (sI h' 49 k (jI (-1))) := (Fr.refl (fun a => a = 49) noT h').sI rfl _ _
          refine ih (k + 1) _ _ dL mL _ (by omega) (ta_fr hA (congrFun (sI_a _ (by decide) _ _) 1) (sI_a _ (by decide) _ _) (sI_a _ (by decide) _ _)) ?_ ?_ (hr'.F q1 (by omega)) (F.sI (by omega) _ _) (jI_add _ _)
          · rw [← h5]
            exact congrFun (sI_a _ (by decide) _ _) 5
          · intro i hi
            by_cases e : i = k
            · subst e
              exact sI_at _ _ _ _
            · exact (sI_k _ _ e _).trans (h9 i (by omega))
  -- the forms are sorted
  have r111 : ∀ (h' : mj_H) (dL mL bL : Int64), isTl h' (rawL d w m) → hI h' 46 5 = jI 0 → isRr h' 7 d w → Fr inT2 noT h h' → Run 111 [some (.ref 46), some (.long dL), none, some (.long mL), none, some (.long bL), none] [] h' (0, 0) := by
    intro h' dL mL bL hl h5 hr' F
    have L0 := L.F F (fun _ z => z.elim)
    have hta := hl.ta
    rw [hn] at hta
    refine hR 60 68 _ _ _ _ _ _ rfl ?_
    refine ⟨L0.K 46 rfl, jcallP (ct_69 G L0 hta) ?_⟩
    rintro o h2 ⟨rfl, B, hB, hP, hSB, F2⟩
    have hBF := hsort B hP hSB
    have hA2 : isTa h2 n FA := by
      obtain ⟨b1, b2, b3⟩ := hB
      refine ⟨b1, b2, fun i hi => ?_⟩
      rw [← hBF i hi]
      exact b3 i hi
    refine r118 n 0 _ h2 dL mL _ (by omega) hA2 ((F2.I (by omega) _).trans h5) (fun i hi => absurd hi (Nat.not_lt_zero i)) (hr'.F F2 (by omega)) (F.trans (F2.mono (by intro a z; omega) (fun _ z => z))) rfl
  have hpre : ∀ (k : Nat) (b : Int) (l : List pI), l ++ gdL d w (flF d k b) = rawL d w m → l.length ≤ 40960 := by
    intro k b l e
    have := congrArg List.length e
    rw [List.length_append, hn] at this
    omega
  have r87 : ∀ (k : Nat) (b : Int) (bL : Int64) (h' : mj_H) (dL mL : Int64) (l : List pI), b < 2 * k → b ≤ 1024 → -3 < b → isTl h' l → l ++ gdL d w (flF d k b) = rawL d w m → hI h' 46 5 = jI 0 → isRr h' 7 d w → Fr inT2 noT h h' → bL = jL b → Run 87 [some (.ref 46), some (.long dL), none, some (.long mL), none, some (.long bL), none] [] h' (0, 0) := by
    intro k
    induction k with
    | zero =>
      rintro b bL h' dL mL l h1 h2 h3 hl he h5 hr' F rfl
      refine hR 60 56 _ _ _ _ _ _ rfl ?_
      refine ⟨fun c => ?_, fun c => ?_⟩
      · refine r111 h' dL mL _ ?_ h5 hr' F
        rw [← he]
        have : gdL d w (flF d 0 b) = [] := rfl
        rw [this, List.append_nil]
        exact hl
      · simp (disch := omega) only [mj_lcm, jI_lt, jI_le, jI_eq, jL_lt, jL_le, jL_eq, jI_lt0, jI_0le, jI_0lt, jI_le0, jI_eq0, jL_eq0, jI_L, jI_add, jI_sub, jI_mul, jI_neg, jL_add, jL_sub, jL_mul, jL_neg, jL_I, jI_div, jI_mod, jL_div, jL_mod] at c
        omega
    | succ k ih =>
      rintro b bL h' dL mL l h1 h2 h3 hl he h5 hr' F rfl
      have L0 := L.F F (fun _ z => z.elim)
      refine hR 60 56 _ _ _ _ _ _ rfl ?_
      refine ⟨fun c => ?_, fun c => ?_⟩
      · simp (disch := omega) only [mj_lcm, jI_lt, jI_le, jI_eq, jL_lt, jL_le, jL_eq, jI_lt0, jI_0le, jI_0lt, jI_le0, jI_eq0, jL_eq0, jI_L, jI_add, jI_sub, jI_mul, jI_neg, jL_add, jL_sub, jL_mul, jL_neg, jL_I, jI_div, jI_mod, jL_div, jL_mod] at c
        refine r111 h' dL mL _ ?_ h5 hr' F
        rw [← he, flF_neg c]
        have : gdL d w [] = [] := rfl
        rw [this, List.append_nil]
        exact hl
      · simp (disch := omega) only [mj_lcm, jI_lt, jI_le, jI_eq, jL_lt, jL_le, jL_eq, jI_lt0, jI_0le, jI_0lt, jI_le0, jI_eq0, jL_eq0, jI_L, jI_add, jI_sub, jI_mul, jI_neg, jL_add, jL_sub, jL_mul, jL_neg, jL_I, jI_div, jI_mod, jL_div, jL_mod] at c
        have efl : flF d (k + 1) b = ptFs d b ++ flF d k (b - 2) := by
          show (if b < 0 then [] else _) = _
          rw [if_neg (by omega)]
        rw [efl, gdL_app, ← List.append_assoc] at he
        refine ⟨L0.K 46 rfl, jcallP (ct_63 G L0 hl hr' (by omega) (by omega) (b := b) (by omega) (hpre _ _ _ he)) ?_⟩
        rintro o h2' ⟨rfl, hl2, F2, e52⟩
        exact ih (b - 2) _ h2' dL mL _ (by omega) (by omega) (by omega) hl2 he (e52.trans h5) (hr'.F F2 (by omega)) (F.trans (F2.mono (by intro a z; omega) (fun _ z => z))) (jL_sub _ _)
  have hm0 : 0 ≤ m := by
    rcases hm with ⟨e1, e2, e3⟩ | ⟨e1, e2, -⟩
    · exact e3
    · exact e2
  have r66 : ∀ (h' : mj_H) (x5 x6 : Option Value), isTl h' [] → hI h' 46 5 = jI 0 → isRr h' 7 d w → Fr inT2 noT h h' → Run 66 [some (.ref 46), some (.long (jL d)), none, some (.long (jL m)), none, x5, x6] [] h' (0, 0) := by
    intro h' x5 x6 hl h5 hr' F
    have em : jL m % jL 2 = jL (m.tmod 2) := jL_mod (by omega) (by omega) (by decide) (by decide)
    have e1 : jL d &&& jL 1 = jL (d % 2) := jL_mask (k := 1) (by decide) rfl
    have hmt : m.tmod 2 = m % 2 := Int.tmod_eq_emod_of_nonneg hm0
    have go : ∀ (bL : Int64), bL = jL (b0E d m) → Run 87 [some (.ref 46), some (.long (jL d)), none, some (.long (jL m)), none, some (.long bL), none] [] h' (0, 0) := by
      intro bL e
      have hb : m - 1 ≤ b0E d m ∧ b0E d m ≤ m := by
        unfold b0E
        split <;> omega
      exact r87 600 (b0E d m) bL h' _ _ [] (by omega) (by omega) (by omega) hl (List.nil_append _) h5 hr' F e
    refine hR 60 42 _ _ _ _ _ _ rfl ?_
    refine ⟨by decide, ?_⟩
    rw [em]
    refine ⟨fun c => ?_, fun c => ?_⟩
    · rw [e1] at c
      simp (disch := omega) only [mj_lcm, jI_lt, jI_le, jI_eq, jL_lt, jL_le, jL_eq, jI_lt0, jI_0le, jI_0lt, jI_le0, jI_eq0, jL_eq0, jI_L, jI_add, jI_sub, jI_mul, jI_neg, jL_add, jL_sub, jL_mul, jL_neg, jL_I, jI_div, jI_mod, jL_div, jL_mod] at c
      refine go _ ?_
      unfold b0E
      rw [if_pos c]
    · rw [e1] at c
      simp (disch := omega) only [mj_lcm, jI_lt, jI_le, jI_eq, jL_lt, jL_le, jL_eq, jI_lt0, jI_0le, jI_0lt, jI_le0, jI_eq0, jL_eq0, jI_L, jI_add, jI_sub, jI_mul, jI_neg, jL_add, jL_sub, jL_mul, jL_neg, jL_I, jI_div, jI_mod, jL_div, jL_mod] at c
      refine go _ ?_
      unfold b0E
      rw [if_neg c, jL_sub]
  have r36 : ∀ (t : Nat) (m' : Int) (mL : Int64) (h' : mj_H) (x5 x6 : Option Value), (m - m').toNat ≤ t → m' ≤ m → (0 < d → m' = m) → 0 ≤ m' → isTl h' [] → hI h' 46 5 = jI 0 → isRr h' 7 d w → Fr inT2 noT h h' → mL = jL m' → Run 36 [some (.ref 46), some (.long (jL d)), none, some (.long mL), none, x5, x6] [] h' (0, 0) := by
    intro t
    induction t with
    | zero =>
      rintro m' mL h' x5 x6 ht h1 h2 h3 hl h5 hr' F rfl
      have : m' = m := by omega
      subst this
      have hsq : (m' + 1) * (m' + 1) ≤ 1025 * 1025 := sq_le (by omega) (by omega)
      have hsq0 := sqn (m' + 1)
      refine hR 60 20 _ _ _ _ _ _ rfl ?_
      refine ⟨fun c => r66 h' _ _ hl h5 hr' F, fun c => ⟨fun c2 => r66 h' _ _ hl h5 hr' F, fun c2 => ?_⟩⟩
      exfalso
      simp (disch := omega) only [mj_lcm, jI_lt, jI_le, jI_eq, jL_lt, jL_le, jL_eq, jI_lt0, jI_0le, jI_0lt, jI_le0, jI_eq0, jL_eq0, jI_L, jI_add, jI_sub, jI_mul, jI_neg, jL_add, jL_sub, jL_mul, jL_neg, jL_I, jI_div, jI_mod, jL_div, jL_mod] at c
      rw [jL_add, jL_mul, jL_mul, Int.mul_assoc] at c2
      simp (disch := omega) only [mj_lcm, jI_lt, jI_le, jI_eq, jL_lt, jL_le, jL_eq, jI_lt0, jI_0le, jI_0lt, jI_le0, jI_eq0, jL_eq0, jI_L, jI_add, jI_sub, jI_mul, jI_neg, jL_add, jL_sub, jL_mul, jL_neg, jL_I, jI_div, jI_mod, jL_div, jL_mod] at c2
      rcases hm with ⟨e1, -⟩ | ⟨e1, e2, e3, e4⟩
      · omega
      · rw [Int.mul_assoc] at e4
        omega
    | succ t ih =>
      rintro m' mL h' x5 x6 ht h1 h2 h3 hl h5 hr' F rfl
      have hsq : (m' + 1) * (m' + 1) ≤ 1025 * 1025 := sq_le (by omega) (by omega)
      have hsq0 := sqn (m' + 1)
      refine hR 60 20 _ _ _ _ _ _ rfl ?_
      refine ⟨fun c => ?_, fun c => ⟨fun c2 => ?_, fun c2 => ?_⟩⟩
      · simp (disch := omega) only [mj_lcm, jI_lt, jI_le, jI_eq, jL_lt, jL_le, jL_eq, jI_lt0, jI_0le, jI_0lt, jI_le0, jI_eq0, jL_eq0, jI_L, jI_add, jI_sub, jI_mul, jI_neg, jL_add, jL_sub, jL_mul, jL_neg, jL_I, jI_div, jI_mod, jL_div, jL_mod] at c
        have : m' = m := h2 (by omega)
        subst this
        exact r66 h' _ _ hl h5 hr' F
      · simp (disch := omega) only [mj_lcm, jI_lt, jI_le, jI_eq, jL_lt, jL_le, jL_eq, jI_lt0, jI_0le, jI_0lt, jI_le0, jI_eq0, jL_eq0, jI_L, jI_add, jI_sub, jI_mul, jI_neg, jL_add, jL_sub, jL_mul, jL_neg, jL_I, jI_div, jI_mod, jL_div, jL_mod] at c
        rw [jL_add, jL_mul, jL_mul, Int.mul_assoc] at c2
        simp (disch := omega) only [mj_lcm, jI_lt, jI_le, jI_eq, jL_lt, jL_le, jL_eq, jI_lt0, jI_0le, jI_0lt, jI_le0, jI_eq0, jL_eq0, jI_L, jI_add, jI_sub, jI_mul, jI_neg, jL_add, jL_sub, jL_mul, jL_neg, jL_I, jI_div, jI_mod, jL_div, jL_mod] at c2
        have : m' = m := by
          rcases hm with ⟨e1, -⟩ | ⟨e1, e2, e3, e4⟩
          · omega
          · rcases Int.lt_or_le m' m with g | g
            · exfalso
              have := sq_le (x := m' + 1) (y := m) (by omega) (by omega)
              rw [Int.mul_assoc] at e3
              omega
            · omega
        subst this
        exact r66 h' _ _ hl h5 hr' F
      · simp (disch := omega) only [mj_lcm, jI_lt, jI_le, jI_eq, jL_lt, jL_le, jL_eq, jI_lt0, jI_0le, jI_0lt, jI_le0, jI_eq0, jL_eq0, jI_L, jI_add, jI_sub, jI_mul, jI_neg, jL_add, jL_sub, jL_mul, jL_neg, jL_I, jI_div, jI_mod, jL_div, jL_mod] at c
        rw [jL_add, jL_mul, jL_mul, Int.mul_assoc] at c2
        simp (disch := omega) only [mj_lcm, jI_lt, jI_le, jI_eq, jL_lt, jL_le, jL_eq, jI_lt0, jI_0le, jI_0lt, jI_le0, jI_eq0, jL_eq0, jI_L, jI_add, jI_sub, jI_mul, jI_neg, jL_add, jL_sub, jL_mul, jL_neg, jL_I, jI_div, jI_mod, jL_div, jL_mod] at c2
        have hlt : m' + 1 ≤ m := by
          rcases hm with ⟨e1, -⟩ | ⟨e1, e2, e3, e4⟩
          · omega
          · have h6 : (m' + 1) * (m' + 1) < (m + 1) * (m + 1) := by
              rw [Int.mul_assoc] at e4
              omega
            have := lt_of_sq (by omega) h6
            omega
        exact ih (m' + 1) _ h' _ _ (by omega) hlt (by omega) (by omega) hl h5 hr' F (jL_add _ _)
  have r18 : ∀ (h' : mj_H) (dL : Int64) (x3 x4 x5 x6 : Option Value), dL = jL d → isTl h' [] → hI h' 46 5 = jI 0 → isRr h' 7 d w → Fr inT2 noT h h' → Run 18 [some (.ref 46), some (.long dL), none, x3, x4, x5, x6] [] h' (0, 0) := by
    rintro h' dL x3 x4 x5 x6 rfl hl h5 hr' F
    have L0 := L.F F (fun _ z => z.elim)
    refine hR 60 10 _ _ _ _ _ _ rfl ?_
    refine ⟨fun c => ⟨L0.K 46 rfl, _, L0.R 46 0 _ rfl, L0.K 7 rfl, ?_⟩, fun c => ?_⟩
    · simp (disch := omega) only [mj_lcm, jI_lt, jI_le, jI_eq, jL_lt, jL_le, jL_eq, jI_lt0, jI_0le, jI_0lt, jI_le0, jI_eq0, jL_eq0, jI_L, jI_add, jI_sub, jI_mul, jI_neg, jL_add, jL_sub, jL_mul, jL_neg, jL_I, jI_div, jI_mod, jL_div, jL_mod] at c
      have : m = w := by
        rcases hm with ⟨e1, e2, -⟩ | ⟨e1, -⟩
        · exact e2
        · omega
      refine r36 0 m _ h' _ _ (by omega) (Int.le_refl _) (fun _ => rfl) hm0 hl h5 hr' F ?_
      rw [this]
      exact hr'.2.2
    · simp (disch := omega) only [mj_lcm, jI_lt, jI_le, jI_eq, jL_lt, jL_le, jL_eq, jI_lt0, jI_0le, jI_0lt, jI_le0, jI_eq0, jL_eq0, jI_L, jI_add, jI_sub, jI_mul, jI_neg, jL_add, jL_sub, jL_mul, jL_neg, jL_I, jI_div, jI_mod, jL_div, jL_mod] at c
      exact r36 m.toNat 0 _ h' _ _ (by omega) hm0 (by omega) (Int.le_refl _) hl h5 hr' F rfl
  have r10 : ∀ (h' : mj_H) (x1 x2 x3 x4 x5 x6 : Option Value), isTl h' [] → hI h' 46 5 = jI 0 → isRr h' 7 d w → Fr inT2 noT h h' → Run 10 [some (.ref 46), x1, x2, x3, x4, x5, x6] [] h' (0, 0) := by
    intro h' x1 x2 x3 x4 x5 x6 hl h5 hr' F
    have L0 := L.F F (fun _ z => z.elim)
    refine hR 60 6 _ _ _ _ _ _ rfl ?_
    refine ⟨L0.K 46 rfl, _, L0.R 46 0 _ rfl, L0.K 7 rfl, ?_⟩
    exact r18 h' _ _ _ _ _ hr'.2.1 hl h5 hr' F
  refine hR 60 0 _ _ _ _ _ _ rfl ?_
  refine ⟨L.K 46 rfl, L.K 46 rfl, ?_⟩
  have q1 : Fr (fun a => a = 46) noT h (sI (sI h 46 1 (jI 0)) 46 5 (jI 0)) := ((Fr.refl (fun a => a = 46) noT h).sI rfl _ _).sI rfl _ _
  refine r10 _ _ _ _ _ _ _ ⟨?_, by decide, fun i p hp => ?_⟩ (sI_at _ _ _ _) (hr.F q1 (by omega)) (q1.mono (by intro a z; omega) (fun _ z => z))
  · exact (sI_k _ _ (by decide) _).trans (sI_at _ _ _ _)
  · rw [List.getElem?_nil] at hp
    cases hp
