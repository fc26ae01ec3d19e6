/-! contracts: forms that are offered -/
def gdF (d w : Int) (f : Fm) : Bool := rdF d w f && decide (Int.gcd (Int.gcd f.1 f.2.1) f.2.2 = 1)
def gdL (d w : Int) (fs : List Fm) : List pI := (fs.filter (gdF d w)).map (fun f => (f.1, f.2.1))
theorem gdL_app (d w : Int) (x y : List Fm) : gdL d w (x ++ y) = gdL d w x ++ gdL d w y := by
  unfold gdL
  rw [List.filter_append, List.map_append]
theorem tkL_gd (d w : Int) (f : Fm) (l : List pI) : tkL d w f l = l ++ gdL d w [f] := by
  unfold tkL gdL gdF
  by_cases h : rdF d w f = true ∧ Int.gcd (Int.gcd f.1 f.2.1) f.2.2 = 1
  · rw [if_pos h]
    simp [h.1, h.2]
  · rw [if_neg h]
    have : (rdF d w f && decide (Int.gcd (Int.gcd f.1 f.2.1) f.2.2 = 1)) = false := by
      cases hr : rdF d w f with
      | false => rfl
      | true =>
        simp only [Bool.true_and, decide_eq_false_iff_not]
        exact fun z => h ⟨hr, z⟩
    simp [this]
/-- the forms that one offer takes -/
def ofFs (d : Int) (f : Fm) : List Fm := if d < 0 then (if 0 < f.2.1 then [f, (f.1, -f.2.1, f.2.2)] else [f]) else [f, (-f.1, f.2.1, -f.2.2)]
theorem len_app {l x y : List pI} (h : (l ++ (x ++ y)).length ≤ 40960) : (l ++ x).length ≤ 40960 := by
  simp only [List.length_append] at h ⊢
  omega
/-- FormHouse$Table.offer(JJJ)V; cuts at [48] -/
def cl_64_1 : List mj_E := (40, false, .lneg, 1, 0, 0, 0, 0, 0) ::
  (41, false, .lload_n 3, 1, 0, 0, 0, 0, 0) ::
  (42, false, .lload 5, 2, 0, 0, 0, 0, 0) ::
  (44, false, .lneg, 1, 0, 0, 0, 0, 0) ::
  (45, false, .invokevirtual 80, 3, 65, 3, 7, 0, 0) ::
  (48, true, .return_, 1, 0, 0, 0, 0, 0) ::
  []
def cl_64_0 : List mj_E := (0, false, .aload_n 0, 1, 0, 0, 0, 0, 0) ::
  (1, false, .lload_n 1, 1, 0, 0, 0, 0, 0) ::
  (2, false, .lload_n 3, 1, 0, 0, 0, 0, 0) ::
  (3, false, .lload 5, 2, 0, 0, 0, 0, 0) ::
  (5, false, .invokevirtual 80, 3, 65, 3, 7, 0, 0) ::
  (8, false, .aload_n 0, 1, 0, 0, 0, 0, 0) ::
  (9, false, .getfield 33, 3, 7, 0, 2, 0, 0) ::
  (12, false, .getfield 44, 3, 3, 0, 1, 0, 0) ::
  (15, false, .lconst 0, 1, 0, 0, 0, 0, jL 0) ::
  (16, false, .lcmp, 1, 0, 0, 0, 0, 0) ::
  (17, false, .ifCond .ge 21, 3, 22, 0, 0, 0, 0) ::
  (20, false, .lload_n 3, 1, 0, 0, 0, 0, 0) ::
  (21, false, .lconst 0, 1, 0, 0, 0, 0, jL 0) ::
  (22, false, .lcmp, 1, 0, 0, 0, 0, 0) ::
  (23, false, .ifCond .le 25, 3, 29, 0, 0, 0, 0) ::
  (26, false, .aload_n 0, 1, 0, 0, 0, 0, 0) ::
  (27, false, .lload_n 1, 1, 0, 0, 0, 0, 0) ::
  (28, false, .lload_n 3, 1, 0, 0, 0, 0, 0) ::
  (29, false, .lneg, 1, 0, 0, 0, 0, 0) ::
  (30, false, .lload 5, 2, 0, 0, 0, 0, 0) ::
  (32, false, .invokevirtual 80, 3, 65, 3, 7, 0, 0) ::
  (35, false, .goto 13, 3, 29, 0, 0, 0, 0) ::
  (38, false, .aload_n 0, 1, 0, 0, 0, 0, 0) ::
  (39, false, .lload_n 1, 1, 0, 0, 0, 0, 0) ::
  cl_64_1
def cd_64 : List mj_E := cl_64_0
def cx_64 : mj_X := (0, [], [])
theorem tb_64 : mj_tab (mj_mt 64) cx_64 cd_64 mj_mh [(0, 0, 0), (0, 0, 0), (0, 0, 0), (0, 0, 0), (4053, 0, 0), (0, 0, 0), (1232, 0, 0), (1071, 0, 0), (0, 0, 0), (0, 0, 0), (0, 0, 0), (0, 0, 0), (0, 0, 0), (0, 0, 0), (0, 0, 0), (0, 0, 0), (0, 0, 0), (0, 0, 0), (0, 0, 0), (0, 0, 0), (4053, 0, 0), (0, 0, 0), (0, 0, 0), (0, 0, 0), (0, 0, 0), (0, 0, 0), (0, 0, 0), (0, 0, 0), (4053, 0, 0), (0, 0, 0)] = true := mj_tab_f (by decide +kernel)
theorem ct_64 (G : mj_G) {h : mj_H} (L : isLay h) {l : List pI} (hl : isTl h l) {d w : Int} (hr : isRr h 7 d w) (hd : -1099511627776 < d ∧ d < 1099511627776) (hw : -1 ≤ w ∧ w < 2147483648) {f : Fm} (ha : -1073741824 < f.1 ∧ f.1 < 1073741824) (hb : -1073741824 < f.2.1 ∧ f.2.1 < 1073741824) (hc : -9223372036854775808 < f.2.2 ∧ f.2.2 < 9223372036854775808) (hn : (l ++ gdL d w (ofFs d f)).length ≤ 40960) : mj_Ct G (mj_mt 64) 0 0 [.ref 46, .long (jL f.1), .long (jL f.2.1), .long (jL f.2.2)] h (fun o h' => o = .returned none ∧ isTl h' (l ++ gdL d w (ofFs d f)) ∧ Fr inTb noT h h' ∧ hI h' 46 5 = hI h 46 5) := by
  refine mj_Ct_of mj_ok tb_64 rfl rfl (Nat.le_of_ble_eq_true rfl) (fun Run hR => ?_)
  have r48 : ∀ (h' : mj_H), isTl h' (l ++ gdL d w (ofFs d f)) → Fr inTb noT h h' → hI h' 46 5 = hI h 46 5 → Run 48 [some (.ref 46), some (.long (jL f.1)), none, some (.long (jL f.2.1)), none, some (.long (jL f.2.2)), none] [] h' (0, 0) := by
    intro h' hl' F e5
    refine hR 40 29 _ _ _ _ _ _ rfl ?_
    exact ⟨rfl, hl', F, e5⟩
  have hsplit : ofFs d f = [f] ++ (if d < 0 then (if 0 < f.2.1 then [(f.1, -f.2.1, f.2.2)] else []) else [(-f.1, f.2.1, -f.2.2)]) := by
    unfold ofFs
    split
    · split <;> rfl
    · rfl
  rw [hsplit, gdL_app] at hn r48
  have c65 := ct_65 G L hl hr hd hw (f := f) ha hb hc (by rw [tkL_gd]; exact len_app hn)
  rw [tkL_gd] at c65
  refine hR 40 0 _ _ _ _ _ _ rfl ?_
  refine ⟨L.K 46 rfl, jcallP c65 ?_⟩
  rintro o h1 ⟨rfl, hl1, F1, e51⟩
  have L1 := L.F F1 (fun _ z => z.elim)
  have hr1 := hr.F F1 (by omega)
  refine ⟨L1.K 46 rfl, _, L1.R 46 0 _ rfl, L1.K 7 rfl, ?_⟩
  rw [hr1.2.1]
  refine ⟨fun c => ?_, fun c => ⟨fun c2 => ?_, fun c2 => ?_⟩⟩
  · simp (disch := omega) only [mj_lcm, jI_lt, jI_le, jI_eq, jL_lt, jL_le, jL_eq, jI_lt0, jI_0le, jI_0lt, jI_le0, jI_eq0, jL_eq0, jI_L, jI_add, jI_sub, jI_mul, jI_neg, jL_add, jL_sub, jL_mul, jL_neg, jL_I, jI_div, jI_mod, jL_div, jL_mod] at c
    rw [if_neg (by omega)] at hn r48
    have c65b := ct_65 G L1 hl1 hr1 hd hw (f := (-f.1, f.2.1, -f.2.2)) (by simp only; omega) hb (by simp only; omega) (by rw [tkL_gd, List.append_assoc]; exact hn)
    rw [tkL_gd, List.append_assoc] at c65b
    simp only at c65b
    rw [← jL_neg, ← jL_neg] at c65b
    refine ⟨L1.K 46 rfl, jcallP c65b ?_⟩
    rintro o h2 ⟨rfl, hl2, F2, e52⟩
    exact r48 h2 hl2 (F1.trans F2) (e52.trans e51)
  · simp (disch := omega) only [mj_lcm, jI_lt, jI_le, jI_eq, jL_lt, jL_le, jL_eq, jI_lt0, jI_0le, jI_0lt, jI_le0, jI_eq0, jL_eq0, jI_L, jI_add, jI_sub, jI_mul, jI_neg, jL_add, jL_sub, jL_mul, jL_neg, jL_I, jI_div, jI_mod, jL_div, jL_mod] at c c2
    rw [if_pos (by omega), if_neg (by omega)] at r48
    refine r48 h1 ?_ F1 e51
    have : gdL d w [] = [] := rfl
    rw [this, List.append_nil]
    exact hl1
  · simp (disch := omega) only [mj_lcm, jI_lt, jI_le, jI_eq, jL_lt, jL_le, jL_eq, jI_lt0, jI_0le, jI_0lt, jI_le0, jI_eq0, jL_eq0, jI_L, jI_add, jI_sub, jI_mul, jI_neg, jL_add, jL_sub, jL_mul, jL_neg, jL_I, jI_div, jI_mod, jL_div, jL_mod] at c c2
    rw [if_pos (by omega), if_pos (by omega)] at hn r48
    have c65b := ct_65 G L1 hl1 hr1 hd hw (f := (f.1, -f.2.1, f.2.2)) ha (by simp only; omega) hc (by rw [tkL_gd, List.append_assoc]; exact hn)
    rw [tkL_gd, List.append_assoc] at c65b
    simp only at c65b
    rw [← jL_neg] at c65b
    refine ⟨L1.K 46 rfl, jcallP c65b ?_⟩
    rintro o h2 ⟨rfl, hl2, F2, e52⟩
    exact r48 h2 hl2 (F1.trans F2) (e52.trans e51)
/-- the forms of a middle number, by a number that goes into what is to be parted -/
def ptF (d b n : Int) (i : Nat) : List Fm := if ((i : Int) + 1) * ((i : Int) + 1) ≤ n.natAbs ∧ (n.natAbs : Int) % ((i : Int) + 1) = 0 then ofFs d ((i : Int) + 1, b, n.tdiv ((i : Int) + 1)) ++ (if ((i : Int) + 1) * ((i : Int) + 1) = n.natAbs then [] else ofFs d ((n.natAbs : Int) / ((i : Int) + 1), b, n.tdiv ((n.natAbs : Int) / ((i : Int) + 1)))) else []
def ptN (d b n : Int) : Nat → List Fm
  | 0 => []
  | i + 1 => ptN d b n i ++ ptF d b n i
theorem ptN_end {d b n : Int} {i : Nat} (h : (n.natAbs : Int) < ((i : Int) + 1) * ((i : Int) + 1)) : ∀ k, ptN d b n (i + k) = ptN d b n i
  | 0 => rfl
  | k + 1 => by
    show ptN d b n (i + k) ++ ptF d b n (i + k) = _
    have : ptF d b n (i + k) = [] := by
      unfold ptF
      rw [if_neg]
      rintro ⟨h1, -⟩
      have := sq_le (x := (i : Int) + 1) (y := ((i + k : Nat) : Int) + 1) (by omega) (by omega)
      omega
    rw [this, List.append_nil, ptN_end h k]
def bN (d b : Int) : Int := (b * b - d).tdiv 4
def ptFs (d b : Int) : List Fm := ptN d b (bN d b) 1100
/-- FormHouse$Table.parted(J)V; cuts at [16, 22, 25, 49, 88, 97] -/
def cl_63_2 : List mj_E := (81, false, .lload 7, 2, 0, 0, 0, 0, 0) ::
  (83, false, .ldiv, 1, 0, 0, 0, 0, 0) ::
  (84, false, .ldiv, 1, 0, 0, 0, 0, 0) ::
  (85, false, .invokevirtual 76, 3, 64, 3, 7, 0, 0) ::
  (88, true, .lload 7, 2, 0, 0, 0, 0, 0) ::
  (90, false, .lconst 1, 1, 0, 0, 0, 0, jL 1) ::
  (91, false, .ladd, 1, 0, 0, 0, 0, 0) ::
  (92, false, .lstore 7, 2, 0, 0, 0, 0, 0) ::
  (94, false, .goto (-69), 3, 15, 0, 0, 0, 0) ::
  (97, true, .return_, 1, 0, 0, 0, 0, 0) ::
  []
def cl_63_1 : List mj_E := (41, false, .lconst 0, 1, 0, 0, 0, 0, jL 0) ::
  (42, false, .lcmp, 1, 0, 0, 0, 0, 0) ::
  (43, false, .ifCond .eq 6, 3, 28, 0, 0, 0, 0) ::
  (46, false, .goto 42, 3, 52, 0, 0, 0, 0) ::
  (49, true, .aload_n 0, 1, 0, 0, 0, 0, 0) ::
  (50, false, .lload 7, 2, 0, 0, 0, 0, 0) ::
  (52, false, .lload_n 1, 1, 0, 0, 0, 0, 0) ::
  (53, false, .lload_n 3, 1, 0, 0, 0, 0, 0) ::
  (54, false, .lload 7, 2, 0, 0, 0, 0, 0) ::
  (56, false, .ldiv, 1, 0, 0, 0, 0, 0) ::
  (57, false, .invokevirtual 76, 3, 64, 3, 7, 0, 0) ::
  (60, false, .lload 7, 2, 0, 0, 0, 0, 0) ::
  (62, false, .lload 7, 2, 0, 0, 0, 0, 0) ::
  (64, false, .lmul, 1, 0, 0, 0, 0, 0) ::
  (65, false, .lload 5, 2, 0, 0, 0, 0, 0) ::
  (67, false, .lcmp, 1, 0, 0, 0, 0, 0) ::
  (68, false, .ifCond .eq 20, 3, 52, 0, 0, 0, 0) ::
  (71, false, .aload_n 0, 1, 0, 0, 0, 0, 0) ::
  (72, false, .lload 5, 2, 0, 0, 0, 0, 0) ::
  (74, false, .lload 7, 2, 0, 0, 0, 0, 0) ::
  (76, false, .ldiv, 1, 0, 0, 0, 0, 0) ::
  (77, false, .lload_n 1, 1, 0, 0, 0, 0, 0) ::
  (78, false, .lload_n 3, 1, 0, 0, 0, 0, 0) ::
  (79, false, .lload 5, 2, 0, 0, 0, 0, 0) ::
  cl_63_2
def cl_63_0 : List mj_E := (0, false, .lload_n 1, 1, 0, 0, 0, 0, 0) ::
  (1, false, .lload_n 1, 1, 0, 0, 0, 0, 0) ::
  (2, false, .lmul, 1, 0, 0, 0, 0, 0) ::
  (3, false, .aload_n 0, 1, 0, 0, 0, 0, 0) ::
  (4, false, .getfield 33, 3, 7, 0, 2, 0, 0) ::
  (7, false, .getfield 44, 3, 3, 0, 1, 0, 0) ::
  (10, false, .lsub, 1, 0, 0, 0, 0, 0) ::
  (11, false, .ldc2_w 68, 3, 0, 0, 0, 0, jL 4) ::
  (14, false, .ldiv, 1, 0, 0, 0, 0, 0) ::
  (15, false, .lstore_n 3, 1, 0, 0, 0, 0, 0) ::
  (16, true, .lload_n 3, 1, 0, 0, 0, 0, 0) ::
  (17, false, .invokestatic 70, 3, 28, 1, 0, 0, 0) ::
  (20, false, .lstore 5, 2, 0, 0, 0, 0, 0) ::
  (22, true, .lconst 1, 1, 0, 0, 0, 0, jL 1) ::
  (23, false, .lstore 7, 2, 0, 0, 0, 0, 0) ::
  (25, true, .lload 7, 2, 0, 0, 0, 0, 0) ::
  (27, false, .lload 7, 2, 0, 0, 0, 0, 0) ::
  (29, false, .lmul, 1, 0, 0, 0, 0, 0) ::
  (30, false, .lload 5, 2, 0, 0, 0, 0, 0) ::
  (32, false, .lcmp, 1, 0, 0, 0, 0, 0) ::
  (33, false, .ifCond .gt 64, 3, 57, 0, 0, 0, 0) ::
  (36, false, .lload 5, 2, 0, 0, 0, 0, 0) ::
  (38, false, .lload 7, 2, 0, 0, 0, 0, 0) ::
  (40, false, .lrem, 1, 0, 0, 0, 0, 0) ::
  cl_63_1
def cd_63 : List mj_E := cl_63_0
def cx_63 : mj_X := (0, [], [])
theorem tb_63 : mj_tab (mj_mt 63) cx_63 cd_63 mj_mh [(0, 0, 0), (0, 0, 0), (0, 0, 0), (0, 0, 0), (1232, 0, 0), (1071, 0, 0), (0, 0, 0), (4047, 0, 0), (0, 0, 0), (0, 0, 0), (0, 0, 0), (4048, 0, 0), (0, 0, 0), (0, 0, 0), (0, 0, 0), (0, 0, 0), (0, 0, 0), (0, 0, 0), (0, 0, 0), (0, 0, 0), (0, 0, 0), (0, 0, 0), (0, 0, 0), (0, 0, 0), (0, 0, 0), (0, 0, 0), (0, 0, 0), (0, 0, 0), (0, 0, 0), (0, 0, 0), (0, 0, 0), (0, 0, 0), (0, 0, 0), (0, 0, 0), (4049, 0, 0), (0, 0, 0), (0, 0, 0), (0, 0, 0), (0, 0, 0), (0, 0, 0), (0, 0, 0), (0, 0, 0), (0, 0, 0), (0, 0, 0), (0, 0, 0), (0, 0, 0), (0, 0, 0), (0, 0, 0), (0, 0, 0), (0, 0, 0), (0, 0, 0), (4049, 0, 0), (0, 0, 0), (0, 0, 0), (0, 0, 0), (0, 0, 0), (0, 0, 0), (0, 0, 0)] = true := mj_tab_f (by decide +kernel)
theorem ct_63 (G : mj_G) {h : mj_H} (L : isLay h) {l : List pI} (hl : isTl h l) {d w : Int} (hr : isRr h 7 d w) (hd : -1048576 ≤ d ∧ d ≤ 1048576) (hw : -1 ≤ w ∧ w < 2147483648) {b : Int} (hb : 0 ≤ b ∧ b ≤ 1024) (hn : (l ++ gdL d w (ptFs d b)).length ≤ 40960) : mj_Ct G (mj_mt 63) 0 0 [.ref 46, .long (jL b)] h (fun o h' => o = .returned none ∧ isTl h' (l ++ gdL d w (ptFs d b)) ∧ Fr inTb noT h h' ∧ hI h' 46 5 = hI h 46 5) := by
  have hbb : b * b ≤ 1024 * 1024 := sq_le hb.1 hb.2
  have hbb0 := sqn b
  have hN1 : ((bN d b).natAbs : Int) ≤ 524288 := by
    unfold bN
    have h2 := Int.natAbs_tdiv (b * b - d) 4
    have h3 : (4 : Int).natAbs = 4 := rfl
    have h4 : (b * b - d).natAbs.div 4 = (b * b - d).natAbs / 4 := rfl
    rw [h3, h4] at h2
    omega
  have eN : (jL b * jL b - jL d) / jL 4 = jL (bN d b) := by
    rw [jL_mul, jL_sub, jL_div (by omega) (by omega) (by decide) (by decide)]
    rfl
  unfold ptFs at hn ⊢
  generalize bN d b = n at *
  refine mj_Ct_of mj_ok tb_63 rfl rfl (Nat.le_of_ble_eq_true rfl) (fun Run hR => ?_)
  have mono : ∀ (i k : Nat), ∃ y, ptN d b n (i + k) = ptN d b n i ++ y := by
    intro i k
    induction k with
    | zero => exact ⟨[], by rw [List.append_nil]; rfl⟩
    | succ k ih =>
      obtain ⟨y, hy⟩ := ih
      refine ⟨y ++ ptF d b n (i + k), ?_⟩
      show ptN d b n (i + k) ++ ptF d b n (i + k) = _
      rw [hy, List.append_assoc]
  have small : ∀ i, i ≤ 1100 → (l ++ gdL d w (ptN d b n i)).length ≤ 40960 := by
    intro i hi
    obtain ⟨y, hy⟩ := mono i (1100 - i)
    rw [show i + (1100 - i) = 1100 by omega] at hy
    rw [hy, gdL_app] at hn
    exact len_app hn
  have fin : ∀ (j i : Nat) (h' : mj_H), 1100 ≤ i + j → i ≤ 1025 → isTl h' (l ++ gdL d w (ptN d b n i)) → Fr inTb noT h h' → hI h' 46 5 = hI h 46 5 → Run 25 [some (.ref 46), some (.long (jL b)), none, some (.long (jL n)), none, some (.long (jL n.natAbs)), none, some (.long (jL ((i : Int) + 1))), none] [] h' (0, 0) := by
    intro j
    induction j with
    | zero => intro i h' h1 h2; omega
    | succ j ih =>
      intro i h' h1 h2 hl' F e5
      have L0 := L.F F (fun _ z => z.elim)
      have hr0 := hr.F F (by omega)
      have hii : ((i : Int) + 1) * ((i : Int) + 1) ≤ 1026 * 1026 := sq_le (by omega) (by omega)
      have hii0 := sqn ((i : Int) + 1)
      have r88 : ∀ (h2 : mj_H), i < 1025 → isTl h2 (l ++ gdL d w (ptN d b n (i + 1))) → Fr inTb noT h h2 → hI h2 46 5 = hI h 46 5 → Run 88 [some (.ref 46), some (.long (jL b)), none, some (.long (jL n)), none, some (.long (jL n.natAbs)), none, some (.long (jL ((i : Int) + 1))), none] [] h2 (0, 0) := by
        intro h2 hi2 hl2 F2 e52
        refine hR 60 52 _ _ _ _ _ _ rfl ?_
        have := ih (i + 1) h2 (by omega) (by omega) hl2 F2 e52
        rw [show (((i + 1 : Nat) : Int) + 1) = ((i : Int) + 1) + 1 by omega, ← jL_add] at this
        exact this
      refine hR 60 15 _ _ _ _ _ _ rfl ?_
      refine ⟨fun c => ?_, fun c => ⟨?_, ?_⟩⟩
      · simp (disch := omega) only [mj_lcm, jI_lt, jI_le, jI_eq, jL_lt, jL_le, jL_eq, jI_lt0, jI_0le, jI_0lt, jI_le0, jI_eq0, jL_eq0, jI_L, jI_add, jI_sub, jI_mul, jI_neg, jL_add, jL_sub, jL_mul, jL_neg, jL_I, jI_div, jI_mod, jL_div, jL_mod] at c
        have e := ptN_end (d := d) (b := b) (n := n) (i := i) c (1100 - i)
        rw [show i + (1100 - i) = 1100 by omega] at e
        refine hR 60 57 _ _ _ _ _ _ rfl ?_
        refine ⟨rfl, ?_, F, e5⟩
        rw [e]
        exact hl'
      · simp (disch := omega) only [mj_lcm, jI_lt, jI_le, jI_eq, jL_lt, jL_le, jL_eq, jI_lt0, jI_0le, jI_0lt, jI_le0, jI_eq0, jL_eq0, jI_L, jI_add, jI_sub, jI_mul, jI_neg, jL_add, jL_sub, jL_mul, jL_neg, jL_I, jI_div, jI_mod, jL_div, jL_mod]
        omega
      · simp (disch := omega) only [mj_lcm, jI_lt, jI_le, jI_eq, jL_lt, jL_le, jL_eq, jI_lt0, jI_0le, jI_0lt, jI_le0, jI_eq0, jL_eq0, jI_L, jI_add, jI_sub, jI_mul, jI_neg, jL_add, jL_sub, jL_mul, jL_neg, jL_I, jI_div, jI_mod, jL_div, jL_mod] at c
        have hi2 : i < 1025 := by
          rcases Nat.lt_or_ge i 1025 with g | g
          · exact g
          · have := sq_le (x := (1026 : Int)) (y := (i : Int) + 1) (by decide) (by omega)
            omega
        have em : jL (n.natAbs : Int) % jL ((i : Int) + 1) = jL ((n.natAbs : Int) % ((i : Int) + 1)) := by
          rw [jL_mod (by omega) (by omega) (by omega) (by omega), Int.tmod_eq_emod_of_nonneg (by omega)]
        have hm0 : 0 ≤ (n.natAbs : Int) % ((i : Int) + 1) := Int.emod_nonneg _ (by omega)
        have hm1 : (n.natAbs : Int) % ((i : Int) + 1) < (i : Int) + 1 := Int.emod_lt_of_pos _ (by omega)
        refine ⟨fun c2 => ?_, fun c2 => ?_⟩
        · rw [em] at c2
          simp (disch := omega) only [mj_lcm, jI_lt, jI_le, jI_eq, jL_lt, jL_le, jL_eq, jI_lt0, jI_0le, jI_0lt, jI_le0, jI_eq0, jL_eq0, jI_L, jI_add, jI_sub, jI_mul, jI_neg, jL_add, jL_sub, jL_mul, jL_neg, jL_I, jI_div, jI_mod, jL_div, jL_mod] at c2
          have hst : ptN d b n (i + 1) = ptN d b n i ++ (ofFs d ((i : Int) + 1, b, n.tdiv ((i : Int) + 1)) ++ (if ((i : Int) + 1) * ((i : Int) + 1) = n.natAbs then [] else ofFs d ((n.natAbs : Int) / ((i : Int) + 1), b, n.tdiv ((n.natAbs : Int) / ((i : Int) + 1))))) := by
            show ptN d b n i ++ ptF d b n i = _
            unfold ptF
            rw [if_pos ⟨by omega, c2⟩]
          have hsm := small (i + 1) (by omega)
          rw [hst, gdL_app, gdL_app, ← List.append_assoc] at hsm r88
          have htd : ((n.tdiv ((i : Int) + 1)).natAbs : Int) ≤ 524288 := by
            have := Int.natAbs_tdiv_le_natAbs n ((i : Int) + 1)
            omega
          refine hR 60 28 _ _ _ _ _ _ rfl ?_
          have c64 := ct_64 G L0 hl' hr0 (by omega) hw (f := ((i : Int) + 1, b, n.tdiv ((i : Int) + 1))) (by simp only; omega) (by simp only; omega) (by simp only; omega) (len_app hsm)
          simp only at c64
          rw [← jL_div (by omega) (by omega) (by omega) (by omega)] at c64
          refine ⟨?_, L0.K 46 rfl, jcallP c64 ?_⟩
          · simp (disch := omega) only [mj_lcm, jI_lt, jI_le, jI_eq, jL_lt, jL_le, jL_eq, jI_lt0, jI_0le, jI_0lt, jI_le0, jI_eq0, jL_eq0, jI_L, jI_add, jI_sub, jI_mul, jI_neg, jL_add, jL_sub, jL_mul, jL_neg, jL_I, jI_div, jI_mod, jL_div, jL_mod]
            omega
          · rintro o h3 ⟨rfl, hl3, F3, e53⟩
            have L3 := L0.F F3 (fun _ z => z.elim)
            have hr3 := hr0.F F3 (by omega)
            refine ⟨fun c3 => ?_, fun c3 => ?_⟩
            · simp (disch := omega) only [mj_lcm, jI_lt, jI_le, jI_eq, jL_lt, jL_le, jL_eq, jI_lt0, jI_0le, jI_0lt, jI_le0, jI_eq0, jL_eq0, jI_L, jI_add, jI_sub, jI_mul, jI_neg, jL_add, jL_sub, jL_mul, jL_neg, jL_I, jI_div, jI_mod, jL_div, jL_mod] at c3
              refine r88 h3 hi2 ?_ (F.trans F3) (e53.trans e5)
              rw [if_pos c3]
              have : gdL d w [] = [] := rfl
              rw [this, List.append_nil]
              exact hl3
            · simp (disch := omega) only [mj_lcm, jI_lt, jI_le, jI_eq, jL_lt, jL_le, jL_eq, jI_lt0, jI_0le, jI_0lt, jI_le0, jI_eq0, jL_eq0, jI_L, jI_add, jI_sub, jI_mul, jI_neg, jL_add, jL_sub, jL_mul, jL_neg, jL_I, jI_div, jI_mod, jL_div, jL_mod] at c3
              rw [if_neg c3] at hsm r88
              have hq0 : 0 < (n.natAbs : Int) / ((i : Int) + 1) := by
                refine Int.ediv_pos_of_pos_of_dvd ?_ (by omega) (Int.dvd_of_emod_eq_zero c2)
                have : 0 < ((i : Int) + 1) * ((i : Int) + 1) := Int.mul_pos (by omega) (by omega)
                omega
              have hq1 : (n.natAbs : Int) / ((i : Int) + 1) ≤ n.natAbs := Int.ediv_le_self _ (by omega)
              have eq : jL (n.natAbs : Int) / jL ((i : Int) + 1) = jL ((n.natAbs : Int) / ((i : Int) + 1)) := by
                rw [jL_div (by omega) (by omega) (by omega) (by omega), Int.tdiv_eq_ediv_of_nonneg (by omega)]
              generalize (n.natAbs : Int) / ((i : Int) + 1) = q at *
              have htd2 : ((n.tdiv q).natAbs : Int) ≤ 524288 := by
                have := Int.natAbs_tdiv_le_natAbs n q
                omega
              have c64b := ct_64 G L3 hl3 hr3 (by omega) hw (f := (q, b, n.tdiv q)) (by simp only; omega) (by simp only; omega) (by simp only; omega) (by rw [List.append_assoc, List.append_assoc]; rw [List.append_assoc] at hsm; exact hsm)
              simp only at c64b
              rw [← jL_div (by omega) (by omega) (by omega) (by omega), ← eq] at c64b
              refine ⟨?_, ?_, ?_, L3.K 46 rfl, jcallP c64b ?_⟩
              · simp (disch := omega) only [mj_lcm, jI_lt, jI_le, jI_eq, jL_lt, jL_le, jL_eq, jI_lt0, jI_0le, jI_0lt, jI_le0, jI_eq0, jL_eq0, jI_L, jI_add, jI_sub, jI_mul, jI_neg, jL_add, jL_sub, jL_mul, jL_neg, jL_I, jI_div, jI_mod, jL_div, jL_mod]
                omega
              · simp (disch := omega) only [mj_lcm, jI_lt, jI_le, jI_eq, jL_lt, jL_le, jL_eq, jI_lt0, jI_0le, jI_0lt, jI_le0, jI_eq0, jL_eq0, jI_L, jI_add, jI_sub, jI_mul, jI_neg, jL_add, jL_sub, jL_mul, jL_neg, jL_I, jI_div, jI_mod, jL_div, jL_mod]
                omega
              · rw [eq]
                simp (disch := omega) only [mj_lcm, jI_lt, jI_le, jI_eq, jL_lt, jL_le, jL_eq, jI_lt0, jI_0le, jI_0lt, jI_le0, jI_eq0, jL_eq0, jI_L, jI_add, jI_sub, jI_mul, jI_neg, jL_add, jL_sub, jL_mul, jL_neg, jL_I, jI_div, jI_mod, jL_div, jL_mod]
                omega
              · rintro o h4 ⟨rfl, hl4, F4, e54⟩
                refine r88 h4 hi2 ?_ ((F.trans F3).trans F4) (e54.trans (e53.trans e5))
                rw [List.append_assoc] at hl4
                exact hl4
        · rw [em] at c2
          simp (disch := omega) only [mj_lcm, jI_lt, jI_le, jI_eq, jL_lt, jL_le, jL_eq, jI_lt0, jI_0le, jI_0lt, jI_le0, jI_eq0, jL_eq0, jI_L, jI_add, jI_sub, jI_mul, jI_neg, jL_add, jL_sub, jL_mul, jL_neg, jL_I, jI_div, jI_mod, jL_div, jL_mod] at c2
          refine r88 h' hi2 ?_ F e5
          have : ptN d b n (i + 1) = ptN d b n i := by
            show ptN d b n i ++ ptF d b n i = _
            unfold ptF
            rw [if_neg (fun z => c2 z.2), List.append_nil]
          rw [this]
          exact hl'
  have r22 : ∀ (x7 x8 : Option Value), Run 22 [some (.ref 46), some (.long (jL b)), none, some (.long (jL n)), none, some (.long (jL n.natAbs)), none, x7, x8] [] h (0, 0) := by
    intro x7 x8
    refine hR 60 13 _ _ _ _ _ _ rfl ?_
    refine fin 1100 0 h (by omega) (by omega) ?_ (Fr.refl _ _ _) rfl
    have : gdL d w (ptN d b n 0) = [] := rfl
    rw [this, List.append_nil]
    exact hl
  have r16 : ∀ (nL : Int64) (x5 x6 x7 x8 : Option Value), nL = jL n → Run 16 [some (.ref 46), some (.long (jL b)), none, some (.long nL), none, x5, x6, x7, x8] [] h (0, 0) := by
    rintro nL x5 x6 x7 x8 rfl
    refine hR 60 10 _ _ _ _ _ _ rfl ?_
    refine jcall (ct_28 G (by omega) (by omega) h) ?_
    exact r22 _ _
  refine hR 60 0 _ _ _ _ _ _ rfl ?_
  refine ⟨L.K 46 rfl, _, L.R 46 0 _ rfl, L.K 7 rfl, by decide, ?_⟩
  refine r16 _ _ _ _ _ ?_
  rw [hr.2.1]
  exact eN
