/-! the model: all reduced forms -/
def gdP (d w : Int) (x y : Int) : Bool := decide (x ≠ 0) && (decide ((y * y - d).tmod (4 * x) = 0) && (rdF d w (fmP d (x, y)) && decide (Int.gcd (Int.gcd x y) (fmP d (x, y)).2.2 = 1)))
def rowL (d w x : Int) : Nat → Int → List pI
  | 0, _ => []
  | m + 1, y => (if gdP d w x y then [(x, y)] else []) ++ rowL d w x m (y + 1)
def yLo (d x : Int) : Int := if d < 0 then -x else 1
def yHi (d w x : Int) : Int := if d < 0 then x else w
def colL (d w : Int) : Nat → Int → List pI
  | 0, _ => []
  | m + 1, x => rowL d w x (yHi d w x + 1 - yLo d x).toNat (yLo d x) ++ colL d w m (x + 1)
/-- the model's list: e is the last first number -/
def mfL (d w e : Int) : List pI := if d < 0 then colL d w e.toNat 1 else colL d w (2 * e + 1).toNat (-e)
def isMl (h : mj_H) (l : List pI) : Prop := hI h 1412 3 = jI l.length ∧ l.length ≤ 40960 ∧ ∀ i p, l[i]? = some p → hI h 1413 i = jI p.1 ∧ hI h 1414 i = jI p.2 ∧ hI h 1415 i = jI (-1) ∧ (-1073741824 < p.1 ∧ p.1 < 1073741824) ∧ (-1073741824 < p.2 ∧ p.2 < 1073741824)
theorem isMl.M {I J S : Nat → Prop} {h h' : mj_H} (f : FrM I J S h h') {l : List pI} (a : isMl h l) (h1 : ¬ I 3) (hs : ∀ x, 1413 ≤ x ∧ x ≤ 1415 → ¬ S x) : isMl h' l := by
  obtain ⟨a1, a2, a3⟩ := a
  refine ⟨(f.2.2.1 3 h1).trans a1, a2, fun i p hp => ?_⟩
  obtain ⟨b1, b2, b3, b4⟩ := a3 i p hp
  exact ⟨(f.I (by decide) (hs 1413 (by omega)) _).trans b1, (f.I (by decide) (hs 1414 (by omega)) _).trans b2, (f.I (by decide) (hs 1415 (by omega)) _).trans b3, b4⟩
theorem isMl.ma {h : mj_H} {l : List pI} (a : isMl h l) : isMa h l.length (aL l) ∧ ∀ i, i < l.length → hI h 1415 i = jI (-1) := by
  obtain ⟨a1, a2, a3⟩ := a
  have e : ∀ i, i < l.length → l[i]? = some (aL l i) := by
    intro i hi
    unfold aL
    rw [List.getElem?_eq_getElem hi]
    rfl
  exact ⟨⟨a1, a2, fun i hi => ⟨(a3 i _ (e i hi)).1, (a3 i _ (e i hi)).2.1, (a3 i _ (e i hi)).2.2.2⟩⟩, fun i hi => (a3 i _ (e i hi)).2.2.1⟩
theorem row_zero (d w : Int) : ∀ (m : Nat) (y : Int), rowL d w 0 m y = []
  | 0, _ => rfl
  | m + 1, y => by
    show (if gdP d w 0 y then _ else _) ++ rowL d w 0 m (y + 1) = []
    rw [row_zero d w m, if_neg (by simp [gdP])]
    rfl
abbrev iLi (k : Nat) : Prop := k = 3
abbrev sLi (c : Nat) : Prop := 1413 ≤ c ∧ c ≤ 1415
abbrev l193 (e x : Int64) (x5 x6 : Option Value) : mj_Ls := [some (.ref 1412), some (.long e), none, some (.long x), none, x5, x6]
/-- FormHouseModel.listForms()V; cuts at [5, 33, 34, 49, 50, 56, 71, 73, 79, 102, 126, 140, 166, 209, 218] -/
def cl_193_5 : List mj_E := (213, false, .lstore 5, 2, 0, 0, 0, 0, 0) ::
  (215, false, .goto (-142), 3, 42, 0, 0, 0, 0) ::
  (218, true, .lload_n 3, 1, 0, 0, 0, 0, 0) ::
  (219, false, .lconst 1, 1, 0, 0, 0, 0, jL 1) ::
  (220, false, .ladd, 1, 0, 0, 0, 0, 0) ::
  (221, false, .lstore_n 3, 1, 0, 0, 0, 0, 0) ::
  (222, false, .goto (-172), 3, 28, 0, 0, 0, 0) ::
  (225, false, .return_, 1, 0, 0, 0, 0, 0) ::
  []
def cl_193_4 : List mj_E := (175, false, .l2i, 1, 0, 0, 0, 0, 0) ::
  (176, false, .iastore, 1, 0, 0, 0, 0, 0) ::
  (177, false, .aload_n 0, 1, 0, 0, 0, 0, 0) ::
  (178, false, .getfield 25, 3, 17, 5, 2, 0, 0) ::
  (181, false, .aload_n 0, 1, 0, 0, 0, 0, 0) ::
  (182, false, .getfield 154, 3, 17, 3, 0, 0, 0) ::
  (185, false, .lload 5, 2, 0, 0, 0, 0, 0) ::
  (187, false, .l2i, 1, 0, 0, 0, 0, 0) ::
  (188, false, .iastore, 1, 0, 0, 0, 0, 0) ::
  (189, false, .aload_n 0, 1, 0, 0, 0, 0, 0) ::
  (190, false, .getfield 28, 3, 17, 6, 2, 0, 0) ::
  (193, false, .aload_n 0, 1, 0, 0, 0, 0, 0) ::
  (194, false, .getfield 154, 3, 17, 3, 0, 0, 0) ::
  (197, false, .iconst (-1), 1, 0, 0, 0, jI (-1), 0) ::
  (198, false, .iastore, 1, 0, 0, 0, 0, 0) ::
  (199, false, .aload_n 0, 1, 0, 0, 0, 0, 0) ::
  (200, false, .dup, 1, 0, 0, 0, 0, 0) ::
  (201, false, .getfield 154, 3, 17, 3, 0, 0, 0) ::
  (204, false, .iconst 1, 1, 0, 0, 0, jI 1, 0) ::
  (205, false, .iadd, 1, 0, 0, 0, 0, 0) ::
  (206, false, .putfield 154, 3, 17, 3, 0, 0, 0) ::
  (209, true, .lload 5, 2, 0, 0, 0, 0, 0) ::
  (211, false, .lconst 1, 1, 0, 0, 0, 0, jL 1) ::
  (212, false, .ladd, 1, 0, 0, 0, 0, 0) ::
  cl_193_5
def cl_193_3 : List mj_E := (126, true, .aload_n 0, 1, 0, 0, 0, 0, 0) ::
  (127, false, .lload_n 3, 1, 0, 0, 0, 0, 0) ::
  (128, false, .lload 5, 2, 0, 0, 0, 0, 0) ::
  (130, false, .invokevirtual 150, 3, 194, 2, 17, 0, 0) ::
  (133, false, .aload_n 0, 1, 0, 0, 0, 0, 0) ::
  (134, false, .invokevirtual 162, 3, 195, 0, 17, 0, 0) ::
  (137, false, .ifCond .eq 72, 3, 117, 0, 0, 0, 0) ::
  (140, true, .aload_n 0, 1, 0, 0, 0, 0, 0) ::
  (141, false, .getfield 132, 3, 17, 50, 1, 0, 0) ::
  (144, false, .aload_n 0, 1, 0, 0, 0, 0, 0) ::
  (145, false, .getfield 135, 3, 17, 51, 1, 0, 0) ::
  (148, false, .invokestatic 166, 3, 197, 2, 0, 0, 0) ::
  (151, false, .aload_n 0, 1, 0, 0, 0, 0, 0) ::
  (152, false, .getfield 140, 3, 17, 52, 1, 0, 0) ::
  (155, false, .invokestatic 166, 3, 197, 2, 0, 0, 0) ::
  (158, false, .lconst 1, 1, 0, 0, 0, 0, jL 1) ::
  (159, false, .lcmp, 1, 0, 0, 0, 0, 0) ::
  (160, false, .ifCond .eq 6, 3, 91, 0, 0, 0, 0) ::
  (163, false, .goto 46, 3, 117, 0, 0, 0, 0) ::
  (166, true, .aload_n 0, 1, 0, 0, 0, 0, 0) ::
  (167, false, .getfield 21, 3, 17, 4, 2, 0, 0) ::
  (170, false, .aload_n 0, 1, 0, 0, 0, 0, 0) ::
  (171, false, .getfield 154, 3, 17, 3, 0, 0, 0) ::
  (174, false, .lload_n 3, 1, 0, 0, 0, 0, 0) ::
  cl_193_4
def cl_193_2 : List mj_E := (82, false, .getfield 9, 3, 17, 1, 1, 0, 0) ::
  (85, false, .lconst 0, 1, 0, 0, 0, 0, jL 0) ::
  (86, false, .lcmp, 1, 0, 0, 0, 0, 0) ::
  (87, false, .ifCond .ge 7, 3, 54, 0, 0, 0, 0) ::
  (90, false, .lload_n 3, 1, 0, 0, 0, 0, 0) ::
  (91, false, .goto 7, 3, 56, 0, 0, 0, 0) ::
  (94, false, .aload_n 0, 1, 0, 0, 0, 0, 0) ::
  (95, false, .getfield 17, 3, 17, 2, 1, 0, 0) ::
  (98, false, .lcmp, 1, 0, 0, 0, 0, 0) ::
  (99, false, .ifCond .gt 119, 3, 122, 0, 0, 0, 0) ::
  (102, true, .lload 5, 2, 0, 0, 0, 0, 0) ::
  (104, false, .lload 5, 2, 0, 0, 0, 0, 0) ::
  (106, false, .lmul, 1, 0, 0, 0, 0, 0) ::
  (107, false, .aload_n 0, 1, 0, 0, 0, 0, 0) ::
  (108, false, .getfield 9, 3, 17, 1, 1, 0, 0) ::
  (111, false, .lsub, 1, 0, 0, 0, 0, 0) ::
  (112, false, .ldc2_w 138, 3, 0, 0, 0, 0, jL 4) ::
  (115, false, .lload_n 3, 1, 0, 0, 0, 0, 0) ::
  (116, false, .lmul, 1, 0, 0, 0, 0, 0) ::
  (117, false, .lrem, 1, 0, 0, 0, 0, 0) ::
  (118, false, .lconst 0, 1, 0, 0, 0, 0, jL 0) ::
  (119, false, .lcmp, 1, 0, 0, 0, 0, 0) ::
  (120, false, .ifCond .eq 6, 3, 72, 0, 0, 0, 0) ::
  (123, false, .goto 86, 3, 117, 0, 0, 0, 0) ::
  cl_193_3
def cl_193_1 : List mj_E := (44, false, .goto 5, 3, 27, 0, 0, 0, 0) ::
  (47, false, .lload_n 1, 1, 0, 0, 0, 0, 0) ::
  (48, false, .lneg, 1, 0, 0, 0, 0, 0) ::
  (49, true, .lstore_n 3, 1, 0, 0, 0, 0, 0) ::
  (50, true, .lload_n 3, 1, 0, 0, 0, 0, 0) ::
  (51, false, .lload_n 1, 1, 0, 0, 0, 0, 0) ::
  (52, false, .lcmp, 1, 0, 0, 0, 0, 0) ::
  (53, false, .ifCond .gt 172, 3, 127, 0, 0, 0, 0) ::
  (56, true, .aload_n 0, 1, 0, 0, 0, 0, 0) ::
  (57, false, .getfield 9, 3, 17, 1, 1, 0, 0) ::
  (60, false, .lconst 0, 1, 0, 0, 0, 0, jL 0) ::
  (61, false, .lcmp, 1, 0, 0, 0, 0, 0) ::
  (62, false, .ifCond .ge 8, 3, 40, 0, 0, 0, 0) ::
  (65, false, .lload_n 3, 1, 0, 0, 0, 0, 0) ::
  (66, false, .lneg, 1, 0, 0, 0, 0, 0) ::
  (67, false, .goto 4, 3, 41, 0, 0, 0, 0) ::
  (70, false, .lconst 1, 1, 0, 0, 0, 0, jL 1) ::
  (71, true, .lstore 5, 2, 0, 0, 0, 0, 0) ::
  (73, true, .lload_n 3, 1, 0, 0, 0, 0, 0) ::
  (74, false, .lconst 0, 1, 0, 0, 0, 0, jL 0) ::
  (75, false, .lcmp, 1, 0, 0, 0, 0, 0) ::
  (76, false, .ifCond .eq 142, 3, 122, 0, 0, 0, 0) ::
  (79, true, .lload 5, 2, 0, 0, 0, 0, 0) ::
  (81, false, .aload_n 0, 1, 0, 0, 0, 0, 0) ::
  cl_193_2
def cl_193_0 : List mj_E := (0, false, .aload_n 0, 1, 0, 0, 0, 0, 0) ::
  (1, false, .iconst 0, 1, 0, 0, 0, jI 0, 0) ::
  (2, false, .putfield 154, 3, 17, 3, 0, 0, 0) ::
  (5, true, .aload_n 0, 1, 0, 0, 0, 0, 0) ::
  (6, false, .getfield 9, 3, 17, 1, 1, 0, 0) ::
  (9, false, .lconst 0, 1, 0, 0, 0, 0, jL 0) ::
  (10, false, .lcmp, 1, 0, 0, 0, 0, 0) ::
  (11, false, .ifCond .ge 18, 3, 15, 0, 0, 0, 0) ::
  (14, false, .aload_n 0, 1, 0, 0, 0, 0, 0) ::
  (15, false, .getfield 9, 3, 17, 1, 1, 0, 0) ::
  (18, false, .lneg, 1, 0, 0, 0, 0, 0) ::
  (19, false, .ldc2_w 157, 3, 0, 0, 0, 0, jL 3) ::
  (22, false, .ldiv, 1, 0, 0, 0, 0, 0) ::
  (23, false, .invokestatic 159, 3, 192, 1, 0, 0, 0) ::
  (26, false, .goto 7, 3, 17, 0, 0, 0, 0) ::
  (29, false, .aload_n 0, 1, 0, 0, 0, 0, 0) ::
  (30, false, .getfield 17, 3, 17, 2, 1, 0, 0) ::
  (33, true, .lstore_n 1, 1, 0, 0, 0, 0, 0) ::
  (34, true, .aload_n 0, 1, 0, 0, 0, 0, 0) ::
  (35, false, .getfield 9, 3, 17, 1, 1, 0, 0) ::
  (38, false, .lconst 0, 1, 0, 0, 0, 0, jL 0) ::
  (39, false, .lcmp, 1, 0, 0, 0, 0, 0) ::
  (40, false, .ifCond .ge 7, 3, 25, 0, 0, 0, 0) ::
  (43, false, .lconst 1, 1, 0, 0, 0, 0, jL 1) ::
  cl_193_1
def cd_193 : List mj_E := cl_193_0
def cx_193 : mj_X := (0, [], [])
theorem tb_193 : mj_tab (mj_mt 193) cx_193 cd_193 mj_mh [(0, 0, 0), (0, 0, 0), (7102, 0, 0), (0, 0, 0), (7100, 0, 0), (0, 0, 0), (0, 0, 0), (0, 0, 0), (0, 0, 0), (7100, 0, 0), (0, 0, 0), (6223, 0, 0), (0, 0, 0), (6214, 0, 0), (0, 0, 0), (0, 0, 0), (7101, 0, 0), (0, 0, 0), (0, 0, 0), (7100, 0, 0), (0, 0, 0), (0, 0, 0), (0, 0, 0), (0, 0, 0), (0, 0, 0), (0, 0, 0), (0, 0, 0), (0, 0, 0), (0, 0, 0), (0, 0, 0), (0, 0, 0), (0, 0, 0), (0, 0, 0), (7100, 0, 0), (0, 0, 0), (0, 0, 0), (0, 0, 0), (0, 0, 0), (0, 0, 0), (0, 0, 0), (0, 0, 0), (0, 0, 0), (0, 0, 0), (0, 0, 0), (0, 0, 0), (0, 0, 0), (0, 0, 0), (0, 0, 0), (7100, 0, 0), (0, 0, 0), (0, 0, 0), (0, 0, 0), (0, 0, 0), (0, 0, 0), (0, 0, 0), (7101, 0, 0), (0, 0, 0), (0, 0, 0), (0, 0, 0), (0, 0, 0), (0, 0, 0), (0, 0, 0), (7100, 0, 0), (0, 0, 0), (6224, 0, 0), (0, 0, 0), (0, 0, 0), (0, 0, 0), (0, 0, 0), (0, 0, 0), (0, 0, 0), (0, 0, 0), (0, 0, 0), (0, 0, 0), (0, 0, 0), (6225, 0, 0), (0, 0, 0), (6229, 0, 0), (0, 0, 0), (0, 0, 0), (7149, 0, 0), (0, 0, 0), (7150, 0, 0), (6236, 0, 0), (0, 0, 0), (7151, 0, 0), (6236, 0, 0), (0, 0, 0), (0, 0, 0), (0, 0, 0), (0, 0, 0), (0, 0, 0), (7103, 0, 0), (0, 0, 0), (7102, 0, 0), (0, 0, 0), (0, 0, 0), (0, 0, 0), (0, 0, 0), (7104, 0, 0), (0, 0, 0), (7102, 0, 0), (0, 0, 0), (0, 0, 0), (0, 0, 0), (0, 0, 0), (7105, 0, 0), (0, 0, 0), (7102, 0, 0), (0, 0, 0), (0, 0, 0), (0, 0, 0), (0, 0, 0), (7102, 0, 0), (0, 0, 0), (0, 0, 0), (7102, 0, 0), (0, 0, 0), (0, 0, 0), (0, 0, 0), (0, 0, 0), (0, 0, 0), (0, 0, 0), (0, 0, 0), (0, 0, 0), (0, 0, 0), (0, 0, 0), (0, 0, 0)] = true := mj_tab_f (by decide +kernel)
theorem ct_193 (G : mj_G) {h : mj_H} (L : isLam h) {d w : Int} (hw : isMw h d w) (hd : -1048576 ≤ d ∧ d ≤ 1048576) (hns : nsq d) (hwp : wdP d w) (hw4 : w ≤ 1024) {e : Int} (he : (d < 0 ∧ 0 ≤ e ∧ e * e ≤ (-d).tdiv 3 ∧ (-d).tdiv 3 < (e + 1) * (e + 1)) ∨ (0 < d ∧ e = w)) (hlen : (mfL d w e).length ≤ 40960) : mj_Ct G (mj_mt 193) 0 0 [.ref 1412] h (fun o h' => o = .returned none ∧ isMl h' (mfL d w e) ∧ FrM iLi jF sLi h h') := by
  have hd0 : d ≠ 0 := by rcases hwp with z | z <;> omega
  have hw1 : -1 ≤ w := by
    rcases hwp with z | z
    · omega
    · have := z.2.1
      omega
  have he4 : 0 ≤ e ∧ e ≤ 1024 := by
    rcases he with ⟨z1, z2, z3, z4⟩ | ⟨z1, z2⟩
    · refine ⟨z2, ?_⟩
      rcases Int.lt_or_le 1024 e with q | q
      · have h1 : 1025 * 1025 ≤ e * e := Int.mul_le_mul (by omega) (by omega) (by decide) (by omega)
        have h2 := Int.natAbs_tdiv_le_natAbs (-d) 3
        omega
      · exact q
    · rcases hwp with z | z
      · omega
      · have := z.2.1
        omega
  obtain ⟨Z, hZ⟩ : ∃ Z, Z = mfL d w e := ⟨_, rfl⟩
  rw [← hZ] at hlen
  have hjw : ∀ {h' : mj_H}, FrM iLi jF sLi h h' → isMw h' d w := fun F => hw.M F (by omega) (by omega)
  refine mj_Ct_of mj_ok tb_193 rfl rfl (Nat.le_of_ble_eq_true rfl) (fun Run hR => ?_)
  have r50 : ∀ (m : Nat) (x : Int) (l : List pI) (h' : mj_H) (xL : Int64) (x5 x6 : Option Value), x + m = e + 1 → (d < 0 → 1 ≤ x) → -1024 ≤ x → l ++ colL d w m x = Z → isMl h' l → FrM iLi jF sLi h h' → xL = jL x → Run 50 (l193 (jL e) xL x5 x6) [] h' (0, 0) := by
    intro m
    induction m with
    | zero =>
      rintro x l h' xL x5 x6 hx hx1 hx2 hl hm F rfl
      refine hR 60 28 _ _ _ _ _ _ rfl ?_
      refine ⟨fun c => ?_, fun c => ?_⟩
      · refine ⟨rfl, ?_, F⟩
        rw [← hZ, ← hl, show colL d w 0 x = [] from rfl, List.append_nil]
        exact hm
      · simp only [mj_lcm] at c
        rw [jL_lt (by omega) (by omega) (by omega) (by omega)] at c
        omega
    | succ m ih =>
      rintro x l h' xL x5 x6 hx hx1 hx2 hl hm F rfl
      have hlo : yLo d x = if d < 0 then -x else 1 := rfl
      have hhi : yHi d w x = if d < 0 then x else w := rfl
      have hyb : -1024 ≤ yLo d x ∧ yHi d w x ≤ 1024 ∧ yLo d x ≤ yHi d w x + 1 := by
        rw [hlo, hhi]
        rcases hwp with z | z
        · rw [if_pos z.1, if_pos z.1]
          have := hx1 z.1
          omega
        · rw [if_neg (by omega), if_neg (by omega)]
          have := z.2.1
          omega
      have r218 : ∀ (l : List pI) (h3 : mj_H) (x5 x6 : Option Value), l ++ colL d w m (x + 1) = Z → isMl h3 l → FrM iLi jF sLi h h3 → Run 218 (l193 (jL e) (jL x) x5 x6) [] h3 (0, 0) := by
        intro l h3 x5 x6 hl3 hm3 F3
        refine hR 60 122 _ _ _ _ _ _ rfl ?_
        exact ih (x + 1) l h3 _ _ _ (by omega) (fun z => by have := hx1 z; omega) (by omega) hl3 hm3 F3 (by rw [jL_add])
      have r73 : ∀ (j : Nat) (y : Int) (l : List pI) (h3 : mj_H) (yL : Int64), y + j = yHi d w x + 1 → -1024 ≤ y → l ++ (rowL d w x j y ++ colL d w m (x + 1)) = Z → isMl h3 l → FrM iLi jF sLi h h3 → yL = jL y → Run 73 (l193 (jL e) (jL x) (some (.long yL)) none) [] h3 (0, 0) := by
        intro j
        by_cases hx0 : x = 0
        · rintro y l h3 yL hy hy2 hl3 hm3 F3 rfl
          refine hR 60 42 _ _ _ _ _ _ rfl ?_
          refine ⟨fun c => ?_, fun c => ?_⟩
          · refine r218 l h3 _ _ ?_ hm3 F3
            rw [hx0] at hl3 ⊢
            rw [row_zero] at hl3
            exact hl3
          · exact absurd (by rw [hx0]; rfl) c
        induction j with
        | zero =>
          rintro y l h3 yL hy hy2 hl3 hm3 F3 rfl
          have L3 := F3.lay L
          have w1 := (hjw F3).1
          have w2 := (hjw F3).2
          refine hR 60 42 _ _ _ _ _ _ rfl ?_
          refine ⟨fun c => ?_, fun c => ?_⟩
          · simp only [mj_lcm] at c
            have c' : jL x = jL 0 := c
            rw [jL_eq (by omega) (by omega) (by omega) (by omega)] at c'
            exact absurd c' hx0
          · refine hR 60 46 _ _ _ _ _ _ rfl ?_
            refine ⟨L3.K 1412 rfl, fun c2 => ⟨L3.K 1412 rfl, fun c3 => r218 l h3 _ _ hl3 hm3 F3, fun c3 => ?_⟩, fun c2 => ⟨fun c3 => r218 l h3 _ _ hl3 hm3 F3, fun c3 => ?_⟩⟩
            · simp only [mj_lcm, w1, w2] at c2 c3
              simp (disch := omega) only [mj_lcm, jI_lt, jI_le, jI_eq, jL_lt, jL_le, jL_eq, jI_lt0, jI_0le, jI_0lt, jI_le0, jI_eq0, jL_eq0, jI_L, jI_add, jI_sub, jI_mul, jI_neg, jL_add, jL_sub, jL_mul, jL_neg, jL_I, jI_div, jI_mod, jL_div, jL_mod] at c2
              rw [jL_lt (by omega) (by omega) (by omega) (by omega)] at c3
              rw [hhi, if_neg (by omega)] at hy
              omega
            · simp only [mj_lcm, w1] at c2 c3
              simp (disch := omega) only [mj_lcm, jI_lt, jI_le, jI_eq, jL_lt, jL_le, jL_eq, jI_lt0, jI_0le, jI_0lt, jI_le0, jI_eq0, jL_eq0, jI_L, jI_add, jI_sub, jI_mul, jI_neg, jL_add, jL_sub, jL_mul, jL_neg, jL_I, jI_div, jI_mod, jL_div, jL_mod] at c2
              rw [jL_lt (by omega) (by omega) (by omega) (by omega)] at c3
              rw [hhi, if_pos (by omega)] at hy
              omega
        | succ j ihj =>
          rintro y l h3 yL hy hy2 hl3 hm3 F3 rfl
          have L3 := F3.lay L
          have w1 := (hjw F3).1
          have w2 := (hjw F3).2
          have hy1 : y ≤ 1024 := by omega
          have hrow : rowL d w x (j + 1) y = (if gdP d w x y then [(x, y)] else []) ++ rowL d w x j (y + 1) := rfl
          have r209 : ∀ (l : List pI) (h4 : mj_H), l ++ (rowL d w x j (y + 1) ++ colL d w m (x + 1)) = Z → isMl h4 l → FrM iLi jF sLi h h4 → Run 209 (l193 (jL e) (jL x) (some (.long (jL y))) none) [] h4 (0, 0) := by
            intro l h4 hl4 hm4 F4
            refine hR 60 117 _ _ _ _ _ _ rfl ?_
            exact ihj (y + 1) l h4 _ (by omega) (by omega) hl4 hm4 F4 (by rw [jL_add])
          have no : gdP d w x y = false → ∀ h4 : mj_H, isMl h4 l → FrM iLi jF sLi h h4 → Run 209 (l193 (jL e) (jL x) (some (.long (jL y))) none) [] h4 (0, 0) := by
            intro hg h4 hm4 F4
            refine r209 l h4 ?_ hm4 F4
            rw [hrow, hg] at hl3
            exact hl3
          have hyy : 0 ≤ y * y ∧ y * y ≤ 1048576 := by
            refine ⟨sqn y, ?_⟩
            have h3 : y * y = (y.natAbs : Int) * y.natAbs := by rw [← Int.natCast_mul, ← Int.natAbs_mul, Int.natAbs_of_nonneg (sqn y)]
            rw [h3]
            exact Int.le_trans (Int.mul_le_mul (c := 1024) (d := 1024) (by omega) (by omega) (by omega) (by decide)) (by decide)
          have hne : y * y ≠ d := hns y
          have hf3 : (fmP d (x, y)).2.2 = (y * y - d).tdiv (4 * x) := rfl
          have hcb := Int.natAbs_tdiv_le_natAbs (y * y - d) (4 * x)
          rw [← hf3] at hcb
          have hb1 : x.natAbs ≤ 1024 := by omega
          have r166 : gdP d w x y = true → ∀ h4 : mj_H, isMl h4 l → FrM iLi jF sLi h h4 → Run 166 (l193 (jL e) (jL x) (some (.long (jL y))) none) [] h4 (0, 0) := by
            intro hg h4 hm4 F4
            have L4 := F4.lay L
            rw [hrow, hg] at hl3
            have hl4 : (l ++ [(x, y)]) ++ (rowL d w x j (y + 1) ++ colL d w m (x + 1)) = Z := by
              rw [← hl3, List.append_assoc, if_pos rfl, List.append_assoc]
            have hlt : l.length < 40960 := by
              have h1 : Z.length = l.length + 1 + (rowL d w x j (y + 1) ++ colL d w m (x + 1)).length := by
                rw [← hl4, List.length_append, List.length_append]
                rfl
              omega
            obtain ⟨a1, a2, a3⟩ := hm4
            have vin : ∀ {c : Nat}, hN h4 c = 40960 → vp_in (hI h4 1412 3) (hN h4 c) := by
              intro c hc
              rw [a1, hc]
              exact jI_in (by omega) (by omega) (by omega)
            have nat : (hI h4 1412 3).toNatClampNeg = l.length := by rw [a1, jI_nat (by omega) (by omega), Int.toNat_natCast]
            refine hR 60 91 _ _ _ _ _ _ rfl ?_
            refine ⟨L4.K 1412 rfl, _, L4.R 1412 4 _ rfl, L4.K 1412 rfl, L4.K 1413 rfl, vin (L4.N 1412 rfl), ?_⟩
            refine ⟨L4.K 1412 rfl, _, L4.R 1412 5 _ rfl, L4.K 1412 rfl, L4.K 1414 rfl, vin (L4.N 1413 rfl), ?_⟩
            refine ⟨L4.K 1412 rfl, _, L4.R 1412 6 _ rfl, L4.K 1412 rfl, L4.K 1415 rfl, vin (L4.N 1414 rfl), ?_⟩
            refine ⟨L4.K 1412 rfl, L4.K 1412 rfl, ?_⟩
            have e5 : sI (sI (sI (sI h4 1413 (hI h4 1412 3).toNatClampNeg (jL x).toInt32) 1414 (hI h4 1412 3).toNatClampNeg (jL y).toInt32) 1415 (hI h4 1412 3).toNatClampNeg (jI (-1))) 1412 3 (hI h4 1412 3 + jI 1) = sI (sI (sI (sI h4 1413 l.length (jI x)) 1414 l.length (jI y)) 1415 l.length (jI (-1))) 1412 3 (jI (l.length + 1 : Nat)) := by
              rw [nat, a1, jI_add, jL_I, jL_I]
              rfl
            have r := r209 (l ++ [(x, y)]) (sI (sI (sI (sI h4 1413 l.length (jI x)) 1414 l.length (jI y)) 1415 l.length (jI (-1))) 1412 3 (jI (l.length + 1 : Nat))) hl4 ?_ ((((F4.aI (c := 1413) (by omega) (by decide) _ _).aI (c := 1414) (by omega) (by decide) _ _).aI (c := 1415) (by omega) (by decide) _ _).fI (by omega) _)
            · rw [← e5] at r
              exact r
            · refine ⟨?_, ?_, fun i p hp => ?_⟩
              · rw [List.length_append]
                exact sI_at _ _ _ _
              · rw [List.length_append]
                show l.length + 1 ≤ 40960
                omega
              · by_cases hi : i = l.length
                · rw [hi] at hp ⊢
                  rw [at_mid l (x, y) []] at hp
                  rw [← Option.some.inj hp]
                  refine ⟨?_, ?_, ?_, ?_, ?_⟩
                  · simp [hI, sI, mj_up]
                  · simp [hI, sI, mj_up]
                  · simp [hI, sI, mj_up]
                  · show _ < x ∧ x < _
                    omega
                  · show _ < y ∧ y < _
                    omega
                · have hlt := lt_of_some hp
                  simp only [List.length_append, List.length_cons, List.length_nil] at hlt
                  rw [List.getElem?_append_left (by omega)] at hp
                  obtain ⟨b1, b2, b3, b4⟩ := a3 i p hp
                  refine ⟨?_, ?_, ?_, b4⟩ <;> simp [hI, sI, mj_up, hi] <;> assumption
          have r140 : (y * y - d).tmod (4 * x) = 0 → rdF d w (fmP d (x, y)) = true → ∀ h4 : mj_H, isMm h4 (fmP d (x, y)) → isMl h4 l → FrM iLi jF sLi h h4 → Run 140 (l193 (jL e) (jL x) (some (.long (jL y))) none) [] h4 (0, 0) := by
            intro ht hrd h4 hmm hm4 F4
            have L4 := F4.lay L
            have m1 : hJ h4 1412 50 = jL x := hmm.1
            have m2 : hJ h4 1412 51 = jL y := hmm.2.1
            have m3 := hmm.2.2
            have hg1 : (Int.gcd x y : Int) ≤ 1024 := by
              have := Int.gcd_le_natAbs_left (a := x) y hx0
              omega
            have hg2 : (Int.gcd (Int.gcd x y) (fmP d (x, y)).2.2 : Int) ≤ 1024 := by
              have h1 : (Int.gcd x y : Int) ≠ 0 := by
                have := Int.gcd_pos_of_ne_zero_left y hx0
                omega
              have := Int.gcd_le_natAbs_left (a := (Int.gcd x y : Int)) (fmP d (x, y)).2.2 h1
              omega
            have hg : gdP d w x y = decide (Int.gcd (Int.gcd x y) (fmP d (x, y)).2.2 = 1) := by
              unfold gdP
              rw [decide_eq_true hx0, decide_eq_true ht, hrd]
              rfl
            have c197 := ct_197 G (x := x) (y := y) (by omega) (by omega) (by omega) (by omega) h4
            rw [← m1, ← m2] at c197
            have c197b := ct_197 G (x := (Int.gcd x y : Int)) (y := (fmP d (x, y)).2.2) (by omega) (by omega) (by omega) (by omega) h4
            rw [← m3] at c197b
            refine hR 60 79 _ _ _ _ _ _ rfl ?_
            refine ⟨L4.K 1412 rfl, L4.K 1412 rfl, jcall c197 ?_⟩
            refine ⟨L4.K 1412 rfl, jcall c197b ?_⟩
            refine ⟨fun c => ?_, fun c => ?_⟩
            · have c' : jL (Int.gcd (Int.gcd x y) (fmP d (x, y)).2.2 : Int) = jL 1 := c
              rw [jL_eq (by omega) (by omega) (by omega) (by omega)] at c'
              exact r166 (by rw [hg]; exact decide_eq_true (by omega)) h4 hm4 F4
            · have c' : ¬ jL (Int.gcd (Int.gcd x y) (fmP d (x, y)).2.2 : Int) = jL 1 := c
              rw [jL_eq (by omega) (by omega) (by omega) (by omega)] at c'
              exact no (by rw [hg]; exact decide_eq_false (by omega)) h4 hm4 F4
          have r126 : (y * y - d).tmod (4 * x) = 0 → Run 126 (l193 (jL e) (jL x) (some (.long (jL y))) none) [] h3 (0, 0) := by
            intro ht
            have hc0 : (fmP d (x, y)).2.2 ≠ 0 := by
              intro z
              have h1 := Int.mul_tdiv_add_tmod (y * y - d) (4 * x)
              rw [← hf3, z, ht] at h1
              omega
            have hok : okF (fmP d (x, y)) := by
              refine ⟨?_, ?_, ?_, hc0⟩
              · show _ < x ∧ x < _
                omega
              · show _ < y ∧ y < _
                omega
              · omega
            have c194 := ct_194 G L3 (hjw F3) (by omega) (x := x) (y := y) hx0 (by omega) (by omega)
            refine hR 60 72 _ _ _ _ _ _ rfl ?_
            refine ⟨L3.K 1412 rfl, jcallP c194 ?_⟩
            rintro o h4 ⟨rfl, m4, F4⟩
            have F34 : FrM iLi jF sLi h h4 := F3.trans (F4.mono (fun _ z => z.elim) (fun _ z => by omega) (fun _ z => z.elim))
            have hm4 := hm3.M F4 (fun z => z) (fun _ _ z => z)
            refine ⟨(F34.lay L).K 1412 rfl, jcall (ct_195 G (F34.lay L) (hjw F34) (by omega) hd0 (by omega) m4 hok (fun z => by show 0 < x; have := hx1 z; omega)) ?_⟩
            by_cases hrd : rdF d w (fmP d (x, y)) = true
            · rw [hrd]
              exact ⟨fun c => absurd c (by decide), fun c => r140 ht hrd h4 m4 hm4 F34⟩
            · rw [Bool.not_eq_true] at hrd
              rw [hrd]
              refine ⟨fun c => no ?_ h4 hm4 F34, fun c => absurd rfl c⟩
              unfold gdP
              rw [hrd]
              simp
          have r102 : Run 102 (l193 (jL e) (jL x) (some (.long (jL y))) none) [] h3 (0, 0) := by
            have htm := tmod_abs (y * y - d) (4 * x)
            have em : (jL y * jL y - hJ h3 1412 1) % (jL 4 * jL x) = jL ((y * y - d).tmod (4 * x)) := by
              rw [w1, jL_mul, jL_mul, jL_sub, jL_mod (by omega) (by omega) (by omega) (by omega)]
            refine hR 60 58 _ _ _ _ _ _ rfl ?_
            refine ⟨L3.K 1412 rfl, ?_, fun c => ?_, fun c => ?_⟩
            · rw [jL_mul]
              show ¬ jL (4 * x) = jL 0
              rw [jL_eq (by omega) (by omega) (by omega) (by omega)]
              omega
            · have c' : (jL y * jL y - hJ h3 1412 1) % (jL 4 * jL x) = jL 0 := c
              rw [em, jL_eq (by omega) (by omega) (by omega) (by omega)] at c'
              exact r126 c'
            · have c' : ¬ (jL y * jL y - hJ h3 1412 1) % (jL 4 * jL x) = jL 0 := c
              rw [em, jL_eq (by omega) (by omega) (by omega) (by omega)] at c'
              refine no ?_ h3 hm3 F3
              unfold gdP
              rw [decide_eq_false c']
              simp
          refine hR 60 42 _ _ _ _ _ _ rfl ?_
          refine ⟨fun c => ?_, fun c => ?_⟩
          · simp only [mj_lcm] at c
            have c' : jL x = jL 0 := c
            rw [jL_eq (by omega) (by omega) (by omega) (by omega)] at c'
            exact absurd c' hx0
          · refine hR 60 46 _ _ _ _ _ _ rfl ?_
            refine ⟨L3.K 1412 rfl, fun c2 => ⟨L3.K 1412 rfl, fun c3 => ?_, fun c3 => r102⟩, fun c2 => ⟨fun c3 => ?_, fun c3 => r102⟩⟩
            · simp only [mj_lcm, w1, w2] at c2 c3
              simp (disch := omega) only [mj_lcm, jI_lt, jI_le, jI_eq, jL_lt, jL_le, jL_eq, jI_lt0, jI_0le, jI_0lt, jI_le0, jI_eq0, jL_eq0, jI_L, jI_add, jI_sub, jI_mul, jI_neg, jL_add, jL_sub, jL_mul, jL_neg, jL_I, jI_div, jI_mod, jL_div, jL_mod] at c2
              rw [jL_lt (by omega) (by omega) (by omega) (by omega)] at c3
              rw [hhi, if_neg (by omega)] at hy
              omega
            · simp only [mj_lcm, w1] at c2 c3
              simp (disch := omega) only [mj_lcm, jI_lt, jI_le, jI_eq, jL_lt, jL_le, jL_eq, jI_lt0, jI_0le, jI_0lt, jI_le0, jI_eq0, jL_eq0, jI_L, jI_add, jI_sub, jI_mul, jI_neg, jL_add, jL_sub, jL_mul, jL_neg, jL_I, jI_div, jI_mod, jL_div, jL_mod] at c2
              rw [jL_lt (by omega) (by omega) (by omega) (by omega)] at c3
              rw [hhi, if_pos (by omega)] at hy
              omega
      have L' := F.lay L
      have w1 := (hjw F).1
      have r71 : ∀ (yL : Int64) (x5 x6 : Option Value), yL = jL (yLo d x) → Run 71 (l193 (jL e) (jL x) x5 x6) [.long yL] h' (0, 0) := by
        intro yL x5 x6 hyL
        refine hR 60 41 _ _ _ _ _ _ rfl ?_
        exact r73 (yHi d w x + 1 - yLo d x).toNat (yLo d x) l h' _ (by omega) hyb.1 hl hm F hyL
      have r56 : ∀ (x5 x6 : Option Value), Run 56 (l193 (jL e) (jL x) x5 x6) [] h' (0, 0) := by
        intro x5 x6
        refine hR 60 32 _ _ _ _ _ _ rfl ?_
        refine ⟨L'.K 1412 rfl, fun c => ?_, fun c => ?_⟩
        · simp only [mj_lcm, w1] at c
          simp (disch := omega) only [mj_lcm, jI_lt, jI_le, jI_eq, jL_lt, jL_le, jL_eq, jI_lt0, jI_0le, jI_0lt, jI_le0, jI_eq0, jL_eq0, jI_L, jI_add, jI_sub, jI_mul, jI_neg, jL_add, jL_sub, jL_mul, jL_neg, jL_I, jI_div, jI_mod, jL_div, jL_mod] at c
          exact r71 _ _ _ (by rw [hlo, if_neg (by omega)])
        · simp only [mj_lcm, w1] at c
          simp (disch := omega) only [mj_lcm, jI_lt, jI_le, jI_eq, jL_lt, jL_le, jL_eq, jI_lt0, jI_0le, jI_0lt, jI_le0, jI_eq0, jL_eq0, jI_L, jI_add, jI_sub, jI_mul, jI_neg, jL_add, jL_sub, jL_mul, jL_neg, jL_I, jI_div, jI_mod, jL_div, jL_mod] at c
          exact r71 _ _ _ (by rw [hlo, if_pos (by omega), jL_neg])
      refine hR 60 28 _ _ _ _ _ _ rfl ?_
      refine ⟨fun c => ?_, fun c => r56 _ _⟩
      simp only [mj_lcm] at c
      rw [jL_lt (by omega) (by omega) (by omega) (by omega)] at c
      omega
  have F1 : FrM iLi jF sLi h (sI h 1412 3 (jI 0)) := (FrM.refl iLi jF sLi h).fI (k := 3) rfl _
  have hm1 : isMl (sI h 1412 3 (jI 0)) [] := ⟨sI_at _ _ _ _, by decide, fun i p hp => by cases hp⟩
  have w1 := (hjw F1).1
  have w2 := (hjw F1).2
  have L1 := F1.lay L
  obtain ⟨h1, hh1⟩ : ∃ h1, h1 = sI h 1412 3 (jI 0) := ⟨_, rfl⟩
  rw [← hh1] at F1 hm1 w1 w2 L1
  have r49 : ∀ (xL : Int64) (x3 x4 x5 x6 : Option Value), xL = jL (if d < 0 then 1 else -e) → Run 49 [some (.ref 1412), some (.long (jL e)), none, x3, x4, x5, x6] [.long xL] h1 (0, 0) := by
    rintro xL x3 x4 x5 x6 hxL
    refine hR 60 27 _ _ _ _ _ _ rfl ?_
    by_cases z : d < 0
    · rw [if_pos z] at hxL
      refine r50 e.toNat 1 [] h1 _ _ _ (by omega) (fun _ => by decide) (by decide) ?_ hm1 F1 hxL
      rw [hZ, mfL, if_pos z]
      rfl
    · rw [if_neg z] at hxL
      refine r50 (2 * e + 1).toNat (-e) [] h1 _ _ _ (by omega) (fun q => absurd q z) (by omega) ?_ hm1 F1 hxL
      rw [hZ, mfL, if_neg z]
      rfl
  have r34 : ∀ (x3 x4 x5 x6 : Option Value), Run 34 [some (.ref 1412), some (.long (jL e)), none, x3, x4, x5, x6] [] h1 (0, 0) := by
    intro x3 x4 x5 x6
    refine hR 60 18 _ _ _ _ _ _ rfl ?_
    refine ⟨L1.K 1412 rfl, fun c => ?_, fun c => ?_⟩
    · simp only [mj_lcm, w1] at c
      simp (disch := omega) only [mj_lcm, jI_lt, jI_le, jI_eq, jL_lt, jL_le, jL_eq, jI_lt0, jI_0le, jI_0lt, jI_le0, jI_eq0, jL_eq0, jI_L, jI_add, jI_sub, jI_mul, jI_neg, jL_add, jL_sub, jL_mul, jL_neg, jL_I, jI_div, jI_mod, jL_div, jL_mod] at c
      exact r49 _ _ _ _ _ (by rw [if_neg (by omega), jL_neg])
    · simp only [mj_lcm, w1] at c
      simp (disch := omega) only [mj_lcm, jI_lt, jI_le, jI_eq, jL_lt, jL_le, jL_eq, jI_lt0, jI_0le, jI_0lt, jI_le0, jI_eq0, jL_eq0, jI_L, jI_add, jI_sub, jI_mul, jI_neg, jL_add, jL_sub, jL_mul, jL_neg, jL_I, jI_div, jI_mod, jL_div, jL_mod] at c
      exact r49 _ _ _ _ _ (by rw [if_pos (by omega)])
  have r33 : ∀ (eL : Int64) (x1 x2 x3 x4 x5 x6 : Option Value), eL = jL e → Run 33 [some (.ref 1412), x1, x2, x3, x4, x5, x6] [.long eL] h1 (0, 0) := by
    rintro eL x1 x2 x3 x4 x5 x6 rfl
    refine hR 60 17 _ _ _ _ _ _ rfl ?_
    exact r34 _ _ _ _
  have r5 : ∀ (x1 x2 x3 x4 x5 x6 : Option Value), Run 5 [some (.ref 1412), x1, x2, x3, x4, x5, x6] [] h1 (0, 0) := by
    intro x1 x2 x3 x4 x5 x6
    refine hR 60 3 _ _ _ _ _ _ rfl ?_
    refine ⟨L1.K 1412 rfl, fun c => ⟨L1.K 1412 rfl, ?_⟩, fun c => ⟨L1.K 1412 rfl, by decide, ?_⟩⟩
    · simp only [mj_lcm, w1] at c
      simp (disch := omega) only [mj_lcm, jI_lt, jI_le, jI_eq, jL_lt, jL_le, jL_eq, jI_lt0, jI_0le, jI_0lt, jI_le0, jI_eq0, jL_eq0, jI_L, jI_add, jI_sub, jI_mul, jI_neg, jL_add, jL_sub, jL_mul, jL_neg, jL_I, jI_div, jI_mod, jL_div, jL_mod] at c
      refine r33 _ _ _ _ _ _ _ ?_
      rw [w2]
      rcases he with z | z
      · omega
      · rw [z.2]
    · simp only [mj_lcm, w1] at c
      simp (disch := omega) only [mj_lcm, jI_lt, jI_le, jI_eq, jL_lt, jL_le, jL_eq, jI_lt0, jI_0le, jI_0lt, jI_le0, jI_eq0, jL_eq0, jI_L, jI_add, jI_sub, jI_mul, jI_neg, jL_add, jL_sub, jL_mul, jL_neg, jL_I, jI_div, jI_mod, jL_div, jL_mod] at c
      have hdn : d < 0 := by omega
      have h2 := Int.natAbs_tdiv_le_natAbs (-d) 3
      have h3 : 0 ≤ (-d).tdiv 3 := Int.tdiv_nonneg (by omega) (by decide)
      have c192 := ct_192 G (v := (-d).tdiv 3) h3 (by omega) h1
      rw [← jL_div (a := -d) (b := 3) (by omega) (by omega) (by omega) (by omega), ← jL_neg, ← w1] at c192
      refine jcallP c192 ?_
      rintro o h4 ⟨e4, v, rfl, v0, v1, v2, v3⟩
      subst e4
      refine r33 _ _ _ _ _ _ _ ?_
      rcases he with ⟨z1, z2, z3, z4⟩ | z
      · have h5 : v ≤ e := by
          rcases Int.lt_or_le e v with q | q
          · have : (e + 1) * (e + 1) ≤ v * v := Int.mul_le_mul (by omega) (by omega) (by omega) (by omega)
            omega
          · exact q
        have h6 : e ≤ v := by
          rcases Int.lt_or_le v e with q | q
          · have : (v + 1) * (v + 1) ≤ e * e := Int.mul_le_mul (by omega) (by omega) (by omega) (by omega)
            omega
          · exact q
        rw [show v = e by omega]
      · omega
  refine hR 60 0 _ _ _ _ _ _ rfl ?_
  refine ⟨L.K 1412 rfl, ?_⟩
  rw [hh1] at r5
  exact r5 _ _ _ _ _ _
