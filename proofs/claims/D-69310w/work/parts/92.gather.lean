/-! contract: all trials -/
def rtsOf (d m : Int) : List Nat := (List.range (2 * m.natAbs)).filter (fun b => decide (rtD (4 * m.natAbs) d b))
def cpF (f : Fm) : Bool := decide (Int.gcd (Int.gcd f.1 f.2.1) f.2.2 = 1)
noncomputable def lnF (d w : Int) (f : Fm) : Nat := Classical.epsilon (fun n => trm d w n f)
noncomputable def rc1 (d w g m : Int) (b : Nat) : Tr := rcT d w g m b (lnF d w (frmO d m b))
noncomputable def trB (d w g m : Int) (l : List Nat) : List Tr := (l.filter (fun (b : Nat) => cpF (frmO d m b))).map (rc1 d w g m)
noncomputable def trS (d w n : Int) (g : Nat) : List Tr := if n.tmod ((g * g : Nat) : Int) = 0 ∧ ¬ (d < 0 ∧ n < 0) then trB d w g (n.tdiv ((g * g : Nat) : Int)) (rtsOf d (n.tdiv ((g * g : Nat) : Int))) else []
noncomputable def trA (d w n : Int) : Nat → List Tr
  | 0 => []
  | k + 1 => trA d w n k ++ trS d w n (k + 1)
/-- all trials of a number, in their order -/
noncomputable def tAll (d w n : Int) : List Tr := trA d w n n.natAbs
def okT (d w n : Int) : Prop := (tAll d w n).length ≤ 8192 ∧ ∀ g b : Nat, 0 < g → n.tmod ((g * g : Nat) : Int) = 0 → ¬ (d < 0 ∧ n < 0) → b ∈ rtsOf d (n.tdiv ((g * g : Nat) : Int)) → cpF (frmO d (n.tdiv ((g * g : Nat) : Int)) b) = true → ∃ k, trm d w k (frmO d (n.tdiv ((g * g : Nat) : Int)) b)
theorem trA_len {d w n : Int} : ∀ {i j : Nat}, i ≤ j → (trA d w n i).length ≤ (trA d w n j).length := by
  intro i j h
  induction j with
  | zero =>
    rw [show i = 0 by omega]
    exact Nat.le_refl _
  | succ j ih =>
    by_cases z : i = j + 1
    · rw [z]
      exact Nat.le_refl _
    · have := ih (by omega)
      show _ ≤ (trA d w n j ++ trS d w n (j + 1)).length
      rw [List.length_append]
      omega
theorem trS_big {d w n : Int} (hn : n ≠ 0) {g : Nat} (h : n.natAbs < g * g) : trS d w n g = [] := by
  unfold trS
  rw [if_neg]
  rintro ⟨z, -⟩
  have h1 := Int.natAbs_tmod n ((g * g : Nat) : Int)
  rw [z, Int.natAbs_natCast, Nat.mod_eq_of_lt h] at h1
  have : (0 : Int).natAbs = 0 := rfl
  omega
theorem trA_stop {d w n : Int} (hn : n ≠ 0) {k : Nat} (h : n.natAbs < (k + 1) * (k + 1)) : ∀ j, k ≤ j → trA d w n j = trA d w n k := by
  intro j
  induction j with
  | zero =>
    intro hj
    rw [show k = 0 by omega]
  | succ j ih =>
    intro hj
    by_cases z : k = j + 1
    · rw [z]
    · have h2 : (k + 1) * (k + 1) ≤ (j + 1) * (j + 1) := Nat.mul_le_mul (by omega) (by omega)
      show trA d w n j ++ trS d w n (j + 1) = _
      rw [ih (by omega), trS_big hn (by omega), List.append_nil]
theorem asc_ext : ∀ (l l' : List Nat), l.Pairwise (· < ·) → l'.Pairwise (· < ·) → (∀ x, x ∈ l ↔ x ∈ l') → l = l'
  | [], [], _, _, _ => rfl
  | [], b :: t, _, _, h => absurd ((h b).2 (List.mem_cons_self ..)) List.not_mem_nil
  | a :: s, [], _, _, h => absurd ((h a).1 (List.mem_cons_self ..)) List.not_mem_nil
  | a :: s, b :: t, p, q, h => by
    obtain ⟨p1, p2⟩ := List.pairwise_cons.1 p
    obtain ⟨q1, q2⟩ := List.pairwise_cons.1 q
    have h1 := (h a).1 (List.mem_cons_self ..)
    have h2 := (h b).2 (List.mem_cons_self ..)
    have e : a = b := by
      rcases List.mem_cons.1 h1 with z | z
      · exact z
      · rcases List.mem_cons.1 h2 with y | y
        · exact y.symm
        · have := q1 a z
          have := p1 b y
          omega
    subst e
    have e2 : s = t := by
      refine asc_ext s t p2 q2 (fun x => ⟨fun hx => ?_, fun hx => ?_⟩)
      · rcases List.mem_cons.1 ((h x).1 (List.mem_cons_of_mem _ hx)) with z | z
        · have := p1 x hx
          omega
        · exact z
      · rcases List.mem_cons.1 ((h x).2 (List.mem_cons_of_mem _ hx)) with z | z
        · have := q1 x hx
          omega
        · exact z
    rw [e2]
theorem ascL.pw {B : List Nat} (h : ascL B) : B.Pairwise (· < ·) := by
  rw [List.pairwise_iff_getElem]
  intro i j hi hj hij
  exact h i j _ _ hij (List.getElem?_eq_getElem hi) (List.getElem?_eq_getElem hj)
theorem rts_pre {d m : Int} {B pre post : List Nat} (ha : ascL B) (hB : RtQ (4 * m.natAbs) (rtD (4 * m.natAbs) d) B) (e : B = pre ++ post) (h1 : ∀ x, x ∈ pre → x < 2 * m.natAbs) (h2 : ∀ x, x ∈ post → 2 * m.natAbs ≤ x) : pre = rtsOf d m := by
  have hp := ha.pw
  rw [e] at hp
  refine asc_ext _ _ (List.pairwise_append.1 hp).1 (List.Pairwise.sublist List.filter_sublist List.pairwise_lt_range) (fun x => ?_)
  rw [rtsOf, List.mem_filter, List.mem_range, decide_eq_true_eq]
  constructor
  · intro hx
    exact ⟨h1 x hx, ((hB.2 x).1 (by rw [e]; exact List.mem_append_left _ hx)).2⟩
  · rintro ⟨x1, x2⟩
    have h3 := (hB.2 x).2 ⟨by omega, x2⟩
    rw [e] at h3
    rcases List.mem_append.1 h3 with z | z
    · exact z
    · have := h2 x z
      omega
theorem trB_snoc (d w g m : Int) (l : List Nat) (b : Nat) : trB d w g m (l ++ [b]) = if Int.gcd (Int.gcd m b) (frmO d m b).2.2 = 1 then trB d w g m l ++ [rcT d w g m b (lnF d w (frmO d m b))] else trB d w g m l := by
  unfold trB
  rw [List.filter_append]
  by_cases z : Int.gcd (Int.gcd m b) (frmO d m b).2.2 = 1
  · have z' : cpF (frmO d m b) = true := by
      unfold cpF
      exact decide_eq_true z
    rw [if_pos z, List.filter_cons, if_pos z', List.filter_nil, List.map_append]
    rfl
  · have z' : ¬ cpF (frmO d m b) = true := by
      unfold cpF
      rw [decide_eq_true_eq]
      exact z
    rw [if_neg z, List.filter_cons, if_neg z', List.filter_nil, List.append_nil]
theorem trB_le (d w g m : Int) (l l' : List Nat) : (trB d w g m l).length ≤ (trB d w g m (l ++ l')).length := by
  unfold trB
  rw [List.filter_append, List.map_append, List.length_append]
  omega
abbrev inTg (x : Nat) : Prop := 69 ≤ x ∧ x ≤ 84
theorem isRt.F {S T : Nat → Prop} {h h' : mj_H} (F : Fr S T h h') {a b : Nat} (hr : isRt h a b) (ht : ¬ T 73) : isRt h' a b := ⟨(F.R ht _).trans hr.1, (F.R ht _).trans hr.2.1, (F.R ht _).trans hr.2.2.1, hr.2.2.2⟩
abbrev l139 (n : Int) (gI : Int32) (x5 x6 x7 : Option Value) : mj_Ls := [some (.ref 69), some (.int (jI n)), some (.ref 7), some (.int (jI n.natAbs)), some (.int gI), x5, x6, x7]
/-- FormHouse$Trials.gather(ILFormHouse$Reducer;)V; cuts at [18, 53, 62, 76, 93, 96, 123, 150] -/
def cl_139_3 : List mj_E := (133, false, .getfield 83, 3, 14, 1, 2, 0, 0) ::
  (136, false, .iload 7, 2, 0, 0, 0, 0, 0) ::
  (138, false, .iaload, 1, 0, 0, 0, 0, 0) ::
  (139, false, .i2l, 1, 0, 0, 0, 0, 0) ::
  (140, false, .aload_n 2, 1, 0, 0, 0, 0, 0) ::
  (141, false, .invokevirtual 86, 3, 157, 4, 12, 0, 0) ::
  (144, false, .iinc 7 1, 3, 0, 0, 0, jI 1, 0) ::
  (147, false, .goto (-51), 3, 53, 0, 0, 0, 0) ::
  (150, true, .iinc 4 1, 3, 0, 0, 0, jI 1, 0) ::
  (153, false, .goto (-135), 3, 11, 0, 0, 0, 0) ::
  (156, false, .return_, 1, 0, 0, 0, 0, 0) ::
  []
def cl_139_2 : List mj_E := (85, false, .getfield 12, 3, 12, 0, 2, 0, 0) ::
  (88, false, .invokevirtual 79, 3, 144, 2, 14, 0, 0) ::
  (91, false, .istore 6, 2, 0, 0, 0, 0, 0) ::
  (93, true, .iconst 0, 1, 0, 0, 0, jI 0, 0) ::
  (94, false, .istore 7, 2, 0, 0, 0, 0, 0) ::
  (96, true, .iload 7, 2, 0, 0, 0, 0, 0) ::
  (98, false, .iload 6, 2, 0, 0, 0, 0, 0) ::
  (100, false, .if_icmp .ge 50, 3, 80, 0, 0, 0, 0) ::
  (103, false, .aload_n 0, 1, 0, 0, 0, 0, 0) ::
  (104, false, .getfield 21, 3, 12, 1, 2, 0, 0) ::
  (107, false, .getfield 83, 3, 14, 1, 2, 0, 0) ::
  (110, false, .iload 7, 2, 0, 0, 0, 0, 0) ::
  (112, false, .iaload, 1, 0, 0, 0, 0, 0) ::
  (113, false, .iconst 2, 1, 0, 0, 0, jI 2, 0) ::
  (114, false, .iload 5, 2, 0, 0, 0, 0, 0) ::
  (116, false, .invokestatic 63, 3, 140, 1, 0, 0, 0) ::
  (119, false, .imul, 1, 0, 0, 0, 0, 0) ::
  (120, false, .if_icmp .ge 30, 3, 80, 0, 0, 0, 0) ::
  (123, true, .aload_n 0, 1, 0, 0, 0, 0, 0) ::
  (124, false, .iload 4, 2, 0, 0, 0, 0, 0) ::
  (126, false, .iload 5, 2, 0, 0, 0, 0, 0) ::
  (128, false, .i2l, 1, 0, 0, 0, 0, 0) ::
  (129, false, .aload_n 0, 1, 0, 0, 0, 0, 0) ::
  (130, false, .getfield 21, 3, 12, 1, 2, 0, 0) ::
  cl_139_3
def cl_139_1 : List mj_E := (41, false, .lconst 0, 1, 0, 0, 0, 0, jL 0) ::
  (42, false, .lcmp, 1, 0, 0, 0, 0, 0) ::
  (43, false, .ifCond .ge 10, 3, 30, 0, 0, 0, 0) ::
  (46, false, .iload_n 1, 1, 0, 0, 0, 0, 0) ::
  (47, false, .ifCond .ge 6, 3, 30, 0, 0, 0, 0) ::
  (50, false, .goto 100, 3, 80, 0, 0, 0, 0) ::
  (53, true, .iload_n 1, 1, 0, 0, 0, 0, 0) ::
  (54, false, .iload 4, 2, 0, 0, 0, 0, 0) ::
  (56, false, .iload 4, 2, 0, 0, 0, 0, 0) ::
  (58, false, .imul, 1, 0, 0, 0, 0, 0) ::
  (59, false, .idiv, 1, 0, 0, 0, 0, 0) ::
  (60, false, .istore 5, 2, 0, 0, 0, 0, 0) ::
  (62, true, .aload_n 0, 1, 0, 0, 0, 0, 0) ::
  (63, false, .getfield 12, 3, 12, 0, 2, 0, 0) ::
  (66, false, .iconst 4, 1, 0, 0, 0, jI 4, 0) ::
  (67, false, .iload 5, 2, 0, 0, 0, 0, 0) ::
  (69, false, .invokestatic 63, 3, 140, 1, 0, 0, 0) ::
  (72, false, .imul, 1, 0, 0, 0, 0, 0) ::
  (73, false, .invokevirtual 75, 3, 141, 1, 13, 0, 0) ::
  (76, true, .aload_n 0, 1, 0, 0, 0, 0, 0) ::
  (77, false, .getfield 21, 3, 12, 1, 2, 0, 0) ::
  (80, false, .aload_n 2, 1, 0, 0, 0, 0, 0) ::
  (81, false, .getfield 69, 3, 3, 0, 1, 0, 0) ::
  (84, false, .aload_n 0, 1, 0, 0, 0, 0, 0) ::
  cl_139_2
def cl_139_0 : List mj_E := (0, false, .aload_n 0, 1, 0, 0, 0, 0, 0) ::
  (1, false, .iconst 0, 1, 0, 0, 0, jI 0, 0) ::
  (2, false, .putfield 56, 3, 12, 3, 0, 0, 0) ::
  (5, false, .aload_n 0, 1, 0, 0, 0, 0, 0) ::
  (6, false, .iconst 0, 1, 0, 0, 0, jI 0, 0) ::
  (7, false, .putfield 60, 3, 12, 11, 0, 0, 0) ::
  (10, false, .iload_n 1, 1, 0, 0, 0, 0, 0) ::
  (11, false, .invokestatic 63, 3, 140, 1, 0, 0, 0) ::
  (14, false, .istore_n 3, 1, 0, 0, 0, 0, 0) ::
  (15, false, .iconst 1, 1, 0, 0, 0, jI 1, 0) ::
  (16, false, .istore 4, 2, 0, 0, 0, 0, 0) ::
  (18, true, .iload 4, 2, 0, 0, 0, 0, 0) ::
  (20, false, .iload 4, 2, 0, 0, 0, 0, 0) ::
  (22, false, .imul, 1, 0, 0, 0, 0, 0) ::
  (23, false, .iload_n 3, 1, 0, 0, 0, 0, 0) ::
  (24, false, .if_icmp .gt 132, 3, 82, 0, 0, 0, 0) ::
  (27, false, .iload_n 1, 1, 0, 0, 0, 0, 0) ::
  (28, false, .iload 4, 2, 0, 0, 0, 0, 0) ::
  (30, false, .iload 4, 2, 0, 0, 0, 0, 0) ::
  (32, false, .imul, 1, 0, 0, 0, 0, 0) ::
  (33, false, .irem, 1, 0, 0, 0, 0, 0) ::
  (34, false, .ifCond .ne 116, 3, 80, 0, 0, 0, 0) ::
  (37, false, .aload_n 2, 1, 0, 0, 0, 0, 0) ::
  (38, false, .getfield 69, 3, 3, 0, 1, 0, 0) ::
  cl_139_1
def cd_139 : List mj_E := cl_139_0
def cx_139 : mj_X := (0, [], [])
theorem tb_139 : mj_tab (mj_mt 139) cx_139 cd_139 mj_mh [(0, 0, 0), (0, 0, 0), (2194, 0, 0), (0, 0, 0), (0, 0, 0), (2210, 0, 0), (0, 0, 0), (5233, 0, 0), (0, 0, 0), (0, 0, 0), (0, 0, 0), (0, 0, 0), (0, 0, 0), (0, 0, 0), (0, 0, 0), (0, 0, 0), (0, 0, 0), (0, 0, 0), (0, 0, 0), (0, 0, 0), (0, 0, 0), (0, 0, 0), (0, 0, 0), (1072, 0, 0), (0, 0, 0), (0, 0, 0), (0, 0, 0), (0, 0, 0), (0, 0, 0), (0, 0, 0), (0, 0, 0), (0, 0, 0), (0, 0, 0), (0, 0, 0), (0, 0, 0), (0, 0, 0), (0, 0, 0), (2191, 0, 0), (0, 0, 0), (0, 0, 0), (5233, 0, 0), (0, 0, 0), (5236, 0, 0), (0, 0, 0), (2192, 0, 0), (0, 0, 0), (1072, 0, 0), (0, 0, 0), (2191, 0, 0), (6008, 0, 0), (0, 0, 0), (0, 0, 0), (0, 0, 0), (0, 0, 0), (0, 0, 0), (0, 0, 0), (0, 0, 0), (2192, 0, 0), (2174, 0, 0), (0, 0, 0), (0, 0, 0), (0, 0, 0), (0, 0, 0), (5233, 0, 0), (0, 0, 0), (0, 0, 0), (0, 0, 0), (0, 0, 0), (0, 0, 0), (0, 0, 0), (0, 0, 0), (2192, 0, 0), (2174, 0, 0), (0, 0, 0), (0, 0, 0), (0, 0, 0), (0, 0, 0), (6060, 0, 0), (0, 0, 0), (0, 0, 0), (0, 0, 0), (0, 0, 0), (0, 0, 0)] = true := mj_tab_f (by decide +kernel)
theorem ct_139 (G : mj_G) {h : mj_H} (L : isLay h) {d w : Int} (hr : isRr h 7 d w) (hd : -1099511627776 < d ∧ d < 1099511627776) (hw : -1 ≤ w ∧ w < 2147483648) {a b : Nat} (hrt : isRt h a b) {n : Int} (hn : n ≠ 0) (hnb : n.natAbs ≤ 1000000) (hok : okT d w n) : mj_Ct G (mj_mt 139) 0 0 [.ref 69, .int (jI n), .ref 7] h (fun o h' => o = .returned none ∧ isTr h' (tAll d w n) (fun _ => false) 0 ∧ (∃ a' b', isRt h' a' b') ∧ Fr inTg is73 h h') := by
  refine mj_Ct_of mj_ok tb_139 rfl rfl (Nat.le_of_ble_eq_true rfl) (fun Run hR => ?_)
  have body : ∀ (k g : Nat) (h' : mj_H) (a b : Nat) (x5 x6 x7 : Option Value), g = k + 1 → k * k ≤ n.natAbs → Fr inTg is73 h h' → isRt h' a b → isTr h' (trA d w n k) (fun _ => false) 0 → (g * g ≤ n.natAbs → ∀ (h3 : mj_H) (a' b' : Nat) (x5 x6 x7 : Option Value) (gI : Int32), Fr inTg is73 h h3 → isRt h3 a' b' → isTr h3 (trA d w n g) (fun _ => false) 0 → gI = jI (g + 1 : Nat) → Run 18 (l139 n gI x5 x6 x7) [] h3 (0, 0)) → Run 18 (l139 n (jI g) x5 x6 x7) [] h' (0, 0) := by
    intro k g h' a b x5 x6 x7 hgk hkk F hrt hT K
    have hkb : k ≤ 1000 := by
      rcases Nat.lt_or_ge 1000 k with z | z
      · have : 1001 * 1001 ≤ k * k := Nat.mul_le_mul z z
        omega
      · exact z
    have hgg : g * g ≤ 1001 * 1001 := Nat.mul_le_mul (by omega) (by omega)
    have hgg1 : g * 1 ≤ g * g := Nat.mul_le_mul (Nat.le_refl _) (by omega)
    have hA : trA d w n g = trA d w n k ++ trS d w n g := by
      subst hgk
      rfl
    obtain ⟨q, hq⟩ : ∃ q, q = g * g := ⟨_, rfl⟩
    have eg : jI (g : Int) * jI (g : Int) = jI (q : Int) := by rw [jI_mul, ← Int.natCast_mul, hq]
    have hS : trS d w n g = if n.tmod (q : Int) = 0 ∧ ¬ (d < 0 ∧ n < 0) then trB d w g (n.tdiv (q : Int)) (rtsOf d (n.tdiv (q : Int))) else [] := by
      rw [hq]
      rfl
    have hok2 := fun b => hok.2 g b (by omega)
    rw [← hq] at hgg hgg1 K hok2
    have r150 : ∀ (h3 : mj_H) (a' b' : Nat) (x5 x6 x7 : Option Value), q ≤ n.natAbs → Fr inTg is73 h h3 → isRt h3 a' b' → isTr h3 (trA d w n g) (fun _ => false) 0 → Run 150 (l139 n (jI g) x5 x6 x7) [] h3 (0, 0) := by
      intro h3 a' b' x5 x6 x7 hqn F3 hrt3 hT3
      refine hR 60 80 _ _ _ _ _ _ rfl ?_
      exact K hqn h3 a' b' _ _ _ _ F3 hrt3 hT3 (by rw [jI_add]; rfl)
    have htm := tmod_abs n (q : Int)
    have htd := Int.natAbs_tdiv_le_natAbs n (q : Int)
    have r53 : q ≤ n.natAbs → n.tmod (q : Int) = 0 → ¬ (d < 0 ∧ n < 0) → ∀ (x5 x6 x7 : Option Value), Run 53 (l139 n (jI g) x5 x6 x7) [] h' (0, 0) := by
      intro hqn ht0 hdn x5 x6 x7
      have hS' := hS
      rw [if_pos ⟨ht0, hdn⟩] at hS'
      have hok3 := fun b => hok2 b ht0 hdn
      obtain ⟨m, hm⟩ : ∃ m, m = n.tdiv (q : Int) := ⟨_, rfl⟩
      rw [← hm] at hS' htd hok3
      have hm0 : m ≠ 0 := by
        intro z
        have h1 := Int.mul_tdiv_add_tmod n (q : Int)
        rw [← hm, ht0, z] at h1
        omega
      have e4 : jI 4 * jI (m.natAbs : Int) = jI ((4 * m.natAbs : Nat) : Int) := by
        rw [jI_mul]
        rfl
      have e2 : jI 2 * jI (m.natAbs : Int) = jI ((2 * m.natAbs : Nat) : Int) := by
        rw [jI_mul]
        rfl
      have iM : (jI m).toInt64 = jL m := jI_L (by omega) (by omega)
      have r96 : ∀ (B : List Nat), ascL B → B.length ≤ 4096 → RtQ (4 * m.natAbs) (rtD (4 * m.natAbs) d) B → ∀ (post pre : List Nat) (h3 : mj_H) (a' b' : Nat) (kI : Int32), B = pre ++ post → (∀ x, x ∈ pre → x < 2 * m.natAbs) → Fr inTg is73 h h3 → isRt h3 a' b' → isRw h3 a' B → isTr h3 (trA d w n k ++ trB d w g m pre) (fun _ => false) 0 → kI = jI pre.length → Run 96 (l139 n (jI g) (some (.int (jI m))) (some (.int (jI B.length))) (some (.int kI))) [] h3 (0, 0) := by
        intro B hasc hBl hB post
        have fin : ∀ (pre post : List Nat) (h3 : mj_H) (a' b' : Nat) (x5 x6 x7 : Option Value), B = pre ++ post → (∀ x, x ∈ pre → x < 2 * m.natAbs) → (∀ x, x ∈ post → 2 * m.natAbs ≤ x) → Fr inTg is73 h h3 → isRt h3 a' b' → isTr h3 (trA d w n k ++ trB d w g m pre) (fun _ => false) 0 → Run 150 (l139 n (jI g) x5 x6 x7) [] h3 (0, 0) := by
          intro pre post h3 a' b' x5 x6 x7 e h1 h2 F3 hrt3 hT3
          refine r150 h3 a' b' _ _ _ hqn F3 hrt3 ?_
          rw [hA, hS', ← rts_pre hasc hB e h1 h2]
          exact hT3
        induction post with
        | nil =>
          rintro pre h3 a' b' kI hp h1 F3 hrt3 hrw3 hT3 rfl
          have hpl : pre.length = B.length := by rw [hp, List.append_nil]
          refine hR 60 53 _ _ _ _ _ _ rfl ?_
          refine ⟨fun c => ?_, fun c => ?_⟩
          · exact fin pre [] h3 a' b' _ _ _ hp h1 (fun x hx => absurd hx List.not_mem_nil) F3 hrt3 hT3
          · simp (disch := omega) only [mj_lcm, jI_lt, jI_le, jI_eq, jL_lt, jL_le, jL_eq, jI_lt0, jI_0le, jI_0lt, jI_le0, jI_eq0, jL_eq0, jI_L, jI_add, jI_sub, jI_mul, jI_neg, jL_add, jL_sub, jL_mul, jL_neg, jL_I, jI_div, jI_mod, jL_div, jL_mod] at c
            omega
        | cons x post ih =>
          rintro pre h3 a' b' kI hp h1 F3 hrt3 hrw3 hT3 rfl
          have L3 := L.F F3 (fun _ z => by omega)
          have hxB : B[pre.length]? = some x := by
            rw [hp]
            exact at_mid pre x post
          have hlt := lt_of_some hxB
          have hx4 := ((hB.2 x).1 (List.mem_iff_getElem?.2 ⟨_, hxB⟩)).1
          have hrx := ((hB.2 x).1 (List.mem_iff_getElem?.2 ⟨_, hxB⟩)).2
          have hKa : hK h3 a' = 1 ∧ hN h3 a' = 4096 := by
            rcases hrt3.2.2.2 with ⟨rfl, _⟩ | ⟨rfl, _⟩
            · exact ⟨L3.K 74 rfl, L3.N 73 rfl⟩
            · exact ⟨L3.K 75 rfl, L3.N 74 rfl⟩
          have nat : (jI (pre.length : Int)).toNatClampNeg = pre.length := by rw [jI_nat (by omega) (by omega), Int.toNat_natCast]
          have vin : vp_in (jI (pre.length : Int)) (hN h3 a') := by
            rw [hKa.2]
            exact jI_in (by omega) (by omega) (by omega)
          have hr3 : isRr h3 7 d w := hr.F F3 (by omega)
          have ex : hI h3 a' (jI (pre.length : Int)).toNatClampNeg = jI x := by
            rw [nat]
            exact hrw3 _ _ hxB
          have iX : (jI (x : Int)).toInt64 = jL (x : Int) := jI_L (by omega) (by omega)
          have hp2 : B = (pre ++ [x]) ++ post := by
            rw [hp, List.append_assoc]
            rfl
          have r123 : x < 2 * m.natAbs → Run 123 (l139 n (jI g) (some (.int (jI m))) (some (.int (jI B.length))) (some (.int (jI pre.length)))) [] h3 (0, 0) := by
            intro hx2
            have hxin : x ∈ rtsOf d m := by
              rw [rtsOf, List.mem_filter, List.mem_range, decide_eq_true_eq]
              exact ⟨hx2, hrx⟩
            have hex : Int.gcd (Int.gcd m x) (frmO d m x).2.2 = 1 → trm d w (lnF d w (frmO d m x)) (frmO d m x) := by
              intro hg
              exact Classical.epsilon_spec (hok3 x hxin (by unfold cpF; exact decide_eq_true hg))
            have hlen : Int.gcd (Int.gcd m x) (frmO d m x).2.2 = 1 → (trA d w n k ++ trB d w g m pre).length < 8192 := by
              intro hg
              have h4 : (trB d w g m (pre ++ [x])).length ≤ (trB d w g m (rtsOf d m)).length := by
                obtain ⟨l', hl'⟩ : ∃ l', rtsOf d m = (pre ++ [x]) ++ l' := by
                  have hB2 : ∀ l : List Nat, (∀ y, y ∈ l → y ∈ B) → l.Pairwise (· < ·) → ∃ u v : List Nat, l = u ++ v ∧ (∀ y, y ∈ u → y < 2 * m.natAbs) ∧ ∀ y, y ∈ v → 2 * m.natAbs ≤ y := by
                    intro l hl pl
                    clear hok3
                    induction l with
                    | nil => exact ⟨[], [], rfl, fun y hy => absurd hy List.not_mem_nil, fun y hy => absurd hy List.not_mem_nil⟩
                    | cons y t iht =>
                      obtain ⟨p1, p2⟩ := List.pairwise_cons.1 pl
                      obtain ⟨u, v, e, a1, a2⟩ := iht (fun z hz => hl z (List.mem_cons_of_mem _ hz)) p2
                      by_cases z : y < 2 * m.natAbs
                      · refine ⟨y :: u, v, by rw [e]; rfl, fun s hs => ?_, a2⟩
                        rcases List.mem_cons.1 hs with rfl | hs
                        · exact z
                        · exact a1 s hs
                      · refine ⟨[], y :: t, rfl, fun s hs => absurd hs List.not_mem_nil, fun s hs => ?_⟩
                        rcases List.mem_cons.1 hs with rfl | hs
                        · omega
                        · have := p1 s hs
                          omega
                  have hpw := hasc.pw
                  rw [hp2] at hpw
                  obtain ⟨u, v, e, a1, a2⟩ := hB2 post (fun y hy => by rw [hp2]; exact List.mem_append_right _ hy) (List.pairwise_append.1 hpw).2.1
                  refine ⟨u, (rts_pre hasc hB (pre := pre ++ [x] ++ u) (post := v) (by rw [hp2, e, ← List.append_assoc]) (fun y hy => ?_) a2).symm⟩
                  rcases List.mem_append.1 hy with z | z
                  · rcases List.mem_append.1 z with z | z
                    · exact h1 y z
                    · rw [List.mem_singleton.1 z]
                      exact hx2
                  · exact a1 y z
                rw [hl']
                exact trB_le ..
              rw [trB_snoc, if_pos hg, List.length_append] at h4
              have h5 : (trA d w n g).length ≤ (tAll d w n).length := trA_len (by omega)
              rw [hA, hS', List.length_append] at h5
              have h6 := hok.1
              have h7 : ([rcT d w g m x (lnF d w (frmO d m x))] : List Tr).length = 1 := rfl
              rw [List.length_append]
              omega
            have c157 := ct_157 G L3 hr3 hd hw hT3 (g := g) (m := m) (b := x) hlen hm0 (by omega) (by omega) hex
            rw [← iM, ← iX, ← ex] at c157
            refine hR 60 66 _ _ _ _ _ _ rfl ?_
            refine ⟨L3.K 69 rfl, _, L3.R 69 1 _ rfl, L3.K 73 rfl, _, hrt3.1, Or.inl hKa.1, vin, L3.K 69 rfl, jcallP c157 ?_⟩
            rintro o h4 ⟨rfl, hT4, F4⟩
            have ha4 : ¬ inTr a' := by
              rcases hrt3.2.2.2 with ⟨rfl, _⟩ | ⟨rfl, _⟩ <;> omega
            refine ih (pre ++ [x]) h4 a' b' _ hp2 (fun y hy => ?_) (F3.trans (F4.mono (fun y hy => by omega) (fun y hy => hy.elim))) (hrt3.F F4 (fun z => z)) (fun i y hy => (F4.I ha4 _).trans (hrw3 i y hy)) ?_ ?_
            · rcases List.mem_append.1 hy with z | z
              · exact h1 y z
              · rw [List.mem_singleton.1 z]
                exact hx2
            · rw [trB_snoc]
              by_cases hg : Int.gcd (Int.gcd m x) (frmO d m x).2.2 = 1
              · rw [if_pos hg, ← List.append_assoc]
                rw [if_pos hg] at hT4
                exact hT4
              · rw [if_neg hg]
                rw [if_neg hg] at hT4
                exact hT4
            · rw [jI_add, List.length_append]
              rfl
          refine hR 60 53 _ _ _ _ _ _ rfl ?_
          refine ⟨fun c => ?_, fun c => ⟨L3.K 69 rfl, _, L3.R 69 1 _ rfl, L3.K 73 rfl, _, hrt3.1, Or.inl hKa.1, vin, jcall (ct_140 G (by omega) (by omega) h3) ?_⟩⟩
          · simp (disch := omega) only [mj_lcm, jI_lt, jI_le, jI_eq, jL_lt, jL_le, jL_eq, jI_lt0, jI_0le, jI_0lt, jI_le0, jI_eq0, jL_eq0, jI_L, jI_add, jI_sub, jI_mul, jI_neg, jL_add, jL_sub, jL_mul, jL_neg, jL_I, jI_div, jI_mod, jL_div, jL_mod] at c
            omega
          · refine ⟨fun c2 => ?_, fun c2 => ?_⟩
            · rw [ex, e2] at c2
              simp (disch := omega) only [mj_lcm, jI_lt, jI_le, jI_eq, jL_lt, jL_le, jL_eq, jI_lt0, jI_0le, jI_0lt, jI_le0, jI_eq0, jL_eq0, jI_L, jI_add, jI_sub, jI_mul, jI_neg, jL_add, jL_sub, jL_mul, jL_neg, jL_I, jI_div, jI_mod, jL_div, jL_mod] at c2
              refine fin pre (x :: post) h3 a' b' _ _ _ hp h1 (fun y hy => ?_) F3 hrt3 hT3
              rcases List.mem_cons.1 hy with rfl | hy
              · omega
              · have hpw := hasc.pw
                rw [hp] at hpw
                have := (List.pairwise_cons.1 (List.pairwise_append.1 hpw).2.1).1 y hy
                omega
            · rw [ex, e2] at c2
              simp (disch := omega) only [mj_lcm, jI_lt, jI_le, jI_eq, jL_lt, jL_le, jL_eq, jI_lt0, jI_0le, jI_0lt, jI_le0, jI_eq0, jL_eq0, jI_L, jI_add, jI_sub, jI_mul, jI_neg, jL_add, jL_sub, jL_mul, jL_neg, jL_I, jI_div, jI_mod, jL_div, jL_mod] at c2
              exact r123 (by omega)
      have r93 : ∀ (B : List Nat), ascL B → B.length ≤ 4096 → RtQ (4 * m.natAbs) (rtD (4 * m.natAbs) d) B → ∀ (h3 : mj_H) (a' b' : Nat) (x7 : Option Value), Fr inTg is73 h h3 → isRt h3 a' b' → isRw h3 a' B → isTr h3 (trA d w n k) (fun _ => false) 0 → Run 93 (l139 n (jI g) (some (.int (jI m))) (some (.int (jI B.length))) x7) [] h3 (0, 0) := by
        intro B hasc hBl hB h3 a' b' x7 F3 hrt3 hrw3 hT3
        refine hR 60 51 _ _ _ _ _ _ rfl ?_
        refine r96 B hasc hBl hB B [] h3 a' b' _ rfl (fun x hx => absurd hx List.not_mem_nil) F3 hrt3 hrw3 ?_ rfl
        rw [show trB d w g m [] = [] from rfl, List.append_nil]
        exact hT3
      have r76 : ∀ (h3 : mj_H) (fs : List pN) (x6 x7 : Option Value), Fr inTg is73 h h3 → isRt h3 a b → isTr h3 (trA d w n k) (fun _ => false) 0 → FacP (4 * m.natAbs) fs → isFc h3 fs → Run 76 (l139 n (jI g) (some (.int (jI m))) x6 x7) [] h3 (0, 0) := by
        intro h3 fs x6 x7 F3 hrt3 hT3 hfp hfc
        have L3 := L.F F3 (fun _ z => by omega)
        have hr3 : isRr h3 7 d w := hr.F F3 (by omega)
        have c144 := ct_144 G L3 hrt3 hfc (by omega) hfp hd
        rw [← hr3.2.1] at c144
        refine hR 60 43 _ _ _ _ _ _ rfl ?_
        refine ⟨L3.K 69 rfl, _, L3.R 69 1 _ rfl, L3.K 7 rfl, L3.K 69 rfl, _, L3.R 69 0 _ rfl, L3.K 73 rfl, jcallP c144 ?_⟩
        rintro o h4 ⟨F4, a', b', B, rfl, hof, hasc, hB⟩
        exact r93 B hasc hof.2.2.1 hB h4 a' b' _ (F3.trans (F4.mono (fun y hy => by omega) (fun y hy => hy))) hof.1 hof.2.2.2 (hT3.F F4 (fun y hy => by omega))
      have r62 : ∀ (mI : Int32) (x6 x7 : Option Value), mI = jI m → Run 62 (l139 n (jI g) (some (.int mI)) x6 x7) [] h' (0, 0) := by
        rintro mI x6 x7 rfl
        have L' := L.F F (fun _ z => by omega)
        have c141 := ct_141 G L' (N := 4 * m.natAbs) (by omega)
        rw [← e4] at c141
        refine hR 60 36 _ _ _ _ _ _ rfl ?_
        refine ⟨L'.K 69 rfl, _, L'.R 69 0 _ rfl, jcall (ct_140 G (by omega) (by omega) h') ?_⟩
        refine ⟨L'.K 70 rfl, jcallP c141 ?_⟩
        rintro o h3 ⟨rfl, ⟨fs, f1, f2⟩, F3⟩
        exact r76 h3 fs _ _ (F.trans (F3.mono (fun y hy => by omega) (fun y hy => hy.elim))) (hrt.F F3 (fun z => z)) (hT.F F3 (fun y hy => by omega)) f1 f2
      refine hR 60 30 _ _ _ _ _ _ rfl ?_
      refine ⟨?_, ?_⟩
      · rw [eg]
        simp (disch := omega) only [mj_lcm, jI_lt, jI_le, jI_eq, jL_lt, jL_le, jL_eq, jI_lt0, jI_0le, jI_0lt, jI_le0, jI_eq0, jL_eq0, jI_L, jI_add, jI_sub, jI_mul, jI_neg, jL_add, jL_sub, jL_mul, jL_neg, jL_I, jI_div, jI_mod, jL_div, jL_mod]
        omega
      · exact r62 _ _ _ (by rw [eg, jI_div (by omega) (by omega) (by omega) (by omega), hm])
    have L' := L.F F (fun _ z => by omega)
    have hr' : isRr h' 7 d w := hr.F F (by omega)
    have skip : q ≤ n.natAbs → ¬ (n.tmod (q : Int) = 0 ∧ ¬ (d < 0 ∧ n < 0)) → Run 150 (l139 n (jI g) x5 x6 x7) [] h' (0, 0) := by
      intro hqn hno
      refine r150 h' a b _ _ _ hqn F hrt ?_
      rw [hA, hS, if_neg hno, List.append_nil]
      exact hT
    refine hR 60 11 _ _ _ _ _ _ rfl ?_
    refine ⟨fun c => ?_, fun c => ?_⟩
    · rw [eg] at c
      simp (disch := omega) only [mj_lcm, jI_lt, jI_le, jI_eq, jL_lt, jL_le, jL_eq, jI_lt0, jI_0le, jI_0lt, jI_le0, jI_eq0, jL_eq0, jI_L, jI_add, jI_sub, jI_mul, jI_neg, jL_add, jL_sub, jL_mul, jL_neg, jL_I, jI_div, jI_mod, jL_div, jL_mod] at c
      refine ⟨rfl, ?_, ⟨a, b, hrt⟩, F⟩
      have hkn : k ≤ n.natAbs := by
        rcases Nat.eq_zero_or_pos k with z | z
        · omega
        · have : k * 1 ≤ k * k := Nat.mul_le_mul (Nat.le_refl _) z
          omega
      have := trA_stop (d := d) (w := w) hn (k := k) (by rw [← hgk, ← hq]; omega) n.natAbs hkn
      rw [tAll, this]
      exact hT
    · rw [eg] at c
      simp (disch := omega) only [mj_lcm, jI_lt, jI_le, jI_eq, jL_lt, jL_le, jL_eq, jI_lt0, jI_0le, jI_0lt, jI_le0, jI_eq0, jL_eq0, jI_L, jI_add, jI_sub, jI_mul, jI_neg, jL_add, jL_sub, jL_mul, jL_neg, jL_I, jI_div, jI_mod, jL_div, jL_mod] at c
      refine ⟨?_, ?_⟩
      · rw [eg]
        simp (disch := omega) only [mj_lcm, jI_lt, jI_le, jI_eq, jL_lt, jL_le, jL_eq, jI_lt0, jI_0le, jI_0lt, jI_le0, jI_eq0, jL_eq0, jI_L, jI_add, jI_sub, jI_mul, jI_neg, jL_add, jL_sub, jL_mul, jL_neg, jL_I, jI_div, jI_mod, jL_div, jL_mod]
        omega
      · refine ⟨fun c2 => ?_, fun c2 => ?_⟩
        · rw [eg, jI_mod (by omega) (by omega) (by omega) (by omega), jI_eq0 (by omega) (by omega)] at c2
          refine ⟨L'.K 7 rfl, fun c3 => ?_, fun c3 => ⟨fun c4 => ?_, fun c4 => ?_⟩⟩
          · simp only [mj_lcm] at c3
            rw [hr'.2.1] at c3
            simp (disch := omega) only [mj_lcm, jI_lt, jI_le, jI_eq, jL_lt, jL_le, jL_eq, jI_lt0, jI_0le, jI_0lt, jI_le0, jI_eq0, jL_eq0, jI_L, jI_add, jI_sub, jI_mul, jI_neg, jL_add, jL_sub, jL_mul, jL_neg, jL_I, jI_div, jI_mod, jL_div, jL_mod] at c3
            exact r53 (by omega) c2 (by omega) _ _ _
          · simp (disch := omega) only [mj_lcm, jI_lt, jI_le, jI_eq, jL_lt, jL_le, jL_eq, jI_lt0, jI_0le, jI_0lt, jI_le0, jI_eq0, jL_eq0, jI_L, jI_add, jI_sub, jI_mul, jI_neg, jL_add, jL_sub, jL_mul, jL_neg, jL_I, jI_div, jI_mod, jL_div, jL_mod] at c4
            exact r53 (by omega) c2 (by omega) _ _ _
          · simp only [mj_lcm] at c3
            rw [hr'.2.1] at c3
            simp (disch := omega) only [mj_lcm, jI_lt, jI_le, jI_eq, jL_lt, jL_le, jL_eq, jI_lt0, jI_0le, jI_0lt, jI_le0, jI_eq0, jL_eq0, jI_L, jI_add, jI_sub, jI_mul, jI_neg, jL_add, jL_sub, jL_mul, jL_neg, jL_I, jI_div, jI_mod, jL_div, jL_mod] at c3
            simp (disch := omega) only [mj_lcm, jI_lt, jI_le, jI_eq, jL_lt, jL_le, jL_eq, jI_lt0, jI_0le, jI_0lt, jI_le0, jI_eq0, jL_eq0, jI_L, jI_add, jI_sub, jI_mul, jI_neg, jL_add, jL_sub, jL_mul, jL_neg, jL_I, jI_div, jI_mod, jL_div, jL_mod] at c4
            exact skip (by omega) (by omega)
        · rw [eg, jI_mod (by omega) (by omega) (by omega) (by omega), jI_eq0 (by omega) (by omega)] at c2
          exact skip (by omega) (fun z => c2 z.1)
  have r18 : ∀ (f k g : Nat) (h' : mj_H) (a b : Nat) (x5 x6 x7 : Option Value) (gI : Int32), n.natAbs ≤ k + f → g = k + 1 → k * k ≤ n.natAbs → Fr inTg is73 h h' → isRt h' a b → isTr h' (trA d w n k) (fun _ => false) 0 → gI = jI g → Run 18 (l139 n gI x5 x6 x7) [] h' (0, 0) := by
    intro f
    induction f with
    | zero =>
      rintro k g h' a b x5 x6 x7 gI hf hgk hkk F hrt hT rfl
      refine body k g h' a b _ _ _ hgk hkk F hrt hT (fun z => ?_)
      have : g * 1 ≤ g * g := Nat.mul_le_mul (Nat.le_refl _) (by omega)
      omega
    | succ f ih =>
      rintro k g h' a b x5 x6 x7 gI hf hgk hkk F hrt hT rfl
      refine body k g h' a b _ _ _ hgk hkk F hrt hT (fun z => ?_)
      intro h3 a' b' x5 x6 x7 gI F3 hrt3 hT3 e
      exact ih g (g + 1) h3 a' b' _ _ _ gI (by omega) rfl z F3 hrt3 hT3 e
  refine hR 60 0 _ _ _ _ _ _ rfl ?_
  refine ⟨L.K 69 rfl, L.K 69 rfl, jcall (ct_140 G (by omega) (by omega) _) ?_⟩
  have F1 : Fr inTg is73 h (sI (sI h 69 3 (jI 0)) 69 11 (jI 0)) := ((Fr.refl _ _ h).sI (by omega) _ _).sI (by omega) _ _
  have F1' : Fr (fun x => x = 69) noT h (sI (sI h 69 3 (jI 0)) 69 11 (jI 0)) := ((Fr.refl (fun x => x = 69) noT h).sI rfl _ _).sI rfl _ _
  exact r18 n.natAbs 0 1 _ a b _ _ _ _ (by omega) rfl (by omega) F1 (hrt.F F1' (fun z => z)) ⟨rfl, Nat.zero_le _, rfl, fun i t hi => by cases hi⟩ rfl
