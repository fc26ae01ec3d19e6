/-! contracts: the table is sorted -/
def PermN {α : Type} (n : Nat) (A B : Nat → α) : Prop := ∃ σ : Nat → Nat, (∀ i, i < n → σ i < n) ∧ (∀ i j, i < n → j < n → σ i = σ j → i = j) ∧ ∀ i, i < n → B i = A (σ i)
theorem PermN.refl {α : Type} (n : Nat) (A : Nat → α) : PermN n A A := ⟨id, fun _ h => h, fun _ _ _ _ h => h, fun _ _ => rfl⟩
theorem PermN.trans {α : Type} {n : Nat} {A B C : Nat → α} (a : PermN n A B) (b : PermN n B C) : PermN n A C := by
  obtain ⟨σ, s1, s2, s3⟩ := a
  obtain ⟨τ, t1, t2, t3⟩ := b
  exact ⟨fun i => σ (τ i), fun i hi => s1 _ (t1 i hi), fun i j hi hj he => t2 i j hi hj (s2 _ _ (t1 i hi) (t1 j hj) he), fun i hi => by rw [t3 i hi, s3 _ (t1 i hi)]⟩
theorem PermN.congr {α : Type} {n : Nat} {A B C : Nat → α} (a : PermN n A B) (h : ∀ i, i < n → C i = B i) : PermN n A C := by
  obtain ⟨σ, s1, s2, s3⟩ := a
  exact ⟨σ, s1, s2, fun i hi => by rw [h i hi, s3 i hi]⟩
def sw (i j k : Nat) : Nat := if k = i then j else if k = j then i else k
theorem PermN.swap {α : Type} {n i j : Nat} (A : Nat → α) (hi : i < n) (hj : j < n) : PermN n A (fun k => A (sw i j k)) := by
  refine ⟨sw i j, fun k hk => ?_, fun k l hk hl he => ?_, fun _ _ => rfl⟩
  · unfold sw
    split
    · exact hj
    · split
      · exact hi
      · exact hk
  · unfold sw at he
    split at he <;> (try split at he) <;> (try split at he) <;> (try split at he) <;> omega
def upN {α : Type} (X : Nat → α) (i : Nat) (v : α) (k : Nat) : α := if k = i then v else X k
theorem PermN.move {α : Type} {n i j : Nat} {A X : Nat → α} {v : α} (hi : i < n) (hj : j < n) (hij : i ≠ j) (a : PermN n A (upN X i v)) : PermN n A (upN (upN X i (X j)) j v) := by
  refine (a.trans (PermN.swap (upN X i v) hi hj)).congr (fun k _ => ?_)
  unfold upN sw
  by_cases h1 : k = i
  · subst h1
    rw [if_neg hij, if_pos rfl, if_pos rfl, if_neg (fun e => hij e.symm)]
  · by_cases h2 : k = j
    · subst h2
      rw [if_pos rfl, if_neg h1, if_pos rfl, if_pos rfl]
    · rw [if_neg h2, if_neg h1, if_neg h1, if_neg h2, if_neg h1]
def le2 (p q : pI) : Prop := p.1 < q.1 ∨ (p.1 = q.1 ∧ p.2 ≤ q.2)
theorem le2.trans {p q r : pI} (a : le2 p q) (b : le2 q r) : le2 p r := by
  unfold le2 at *
  omega
def srt (n : Nat) (A : Nat → pI) : Prop := ∀ i j, i < j → j < n → le2 (A i) (A j)
/-- sorted but for a hole, behind which all is above v -/
def hole (k i : Nat) (v : pI) (X : Nat → pI) : Prop := (∀ a b, a < b → b ≤ k → a ≠ i → b ≠ i → le2 (X a) (X b)) ∧ ∀ b, i < b → b ≤ k → le2 v (X b)
theorem hole_fill {k i : Nat} {v : pI} {X : Nat → pI} (hi : i ≤ k) (h : hole k i v X) (hv : i = 0 ∨ le2 (X (i - 1)) v) : srt (k + 1) (upN X i v) := by
  intro a b hab hb
  unfold upN
  by_cases h1 : a = i
  · subst h1
    rw [if_pos rfl, if_neg (by omega)]
    exact h.2 b hab (by omega)
  · rw [if_neg h1]
    by_cases h2 : b = i
    · subst h2
      rw [if_pos rfl]
      rcases hv with z | z
      · omega
      · by_cases h3 : a = b - 1
        · subst h3
          exact z
        · exact (h.1 a (b - 1) (by omega) (by omega) h1 (by omega)).trans z
    · rw [if_neg h2]
      exact h.1 a b hab (by omega) h1 h2
theorem hole_move {k i : Nat} {v : pI} {X : Nat → pI} (hi : i ≤ k) (h0 : 1 ≤ i) (h : hole k i v X) (hv : le2 v (X (i - 1))) : hole k (i - 1) v (upN X i (X (i - 1))) := by
  refine ⟨fun a b hab hb ha hbb => ?_, fun b hb1 hb2 => ?_⟩
  · unfold upN
    by_cases h1 : a = i
    · subst h1
      rw [if_pos rfl, if_neg (by omega)]
      exact h.1 (a - 1) b (by omega) hb (by omega) (by omega)
    · rw [if_neg h1]
      by_cases h2 : b = i
      · subst h2
        rw [if_pos rfl]
        exact h.1 a (b - 1) (by omega) (by omega) h1 (by omega)
      · rw [if_neg h2]
        exact h.1 a b hab hb h1 h2
  · unfold upN
    by_cases h2 : b = i
    · rw [if_pos h2]
      exact hv
    · rw [if_neg h2]
      exact h.2 b (by omega) hb2
theorem hole_start {k : Nat} {X : Nat → pI} {v : pI} (h : srt k X) : hole k k v X := ⟨fun a b hab hb ha hbb => h a b hab (by omega), fun b h1 h2 => by omega⟩
/-- the listed forms, as they lie -/
def isTa (h : mj_H) (n : Nat) (A : Nat → pI) : Prop := hI h 46 1 = jI n ∧ n ≤ 40960 ∧ ∀ i, i < n → hI h 47 i = jI (A i).1 ∧ hI h 48 i = jI (A i).2 ∧ (-1073741824 < (A i).1 ∧ (A i).1 < 1073741824) ∧ (-1073741824 < (A i).2 ∧ (A i).2 < 1073741824)
theorem isTa.tl {h : mj_H} {n : Nat} {A : Nat → pI} (a : isTa h n A) : isTl h ((List.range n).map A) := by
  obtain ⟨a1, a2, a3⟩ := a
  refine ⟨?_, ?_, fun i p hp => ?_⟩
  · rw [List.length_map, List.length_range]
    exact a1
  · rw [List.length_map, List.length_range]
    exact a2
  · have hlt := lt_of_some hp
    rw [List.length_map, List.length_range] at hlt
    have : p = A i := by
      rw [List.getElem?_map, List.getElem?_range hlt] at hp
      exact (Option.some.inj hp).symm
    subst this
    exact a3 i hlt
theorem ta_at {n k : Nat} (A : Nat → pI) (hk : k < n) : ((List.range n).map A)[k]? = some (A k) := by
  rw [List.getElem?_map, List.getElem?_range hk]
  rfl
def gapN : Nat → Nat
  | 0 => 0
  | j + 1 => 3 * gapN j + 1
abbrev in3 (a : Nat) : Prop := a = 47 ∨ a = 48
theorem ta_put {h : mj_H} {n i : Nat} {X : Nat → pI} {v : pI} (a : isTa h n X) (hv1 : -1073741824 < v.1 ∧ v.1 < 1073741824) (hv2 : -1073741824 < v.2 ∧ v.2 < 1073741824) : isTa (sI (sI h 47 i (jI v.1)) 48 i (jI v.2)) n (upN X i v) := by
  obtain ⟨a1, a2, a3⟩ := a
  refine ⟨?_, a2, fun k hk => ?_⟩
  · rw [← a1]
    exact congrFun ((sI_a _ (by decide) _ _).trans (sI_a _ (by decide) _ _)) 1
  · have e7 : (sI (sI h 47 i (jI v.1)) 48 i (jI v.2)).1 47 k = (sI h 47 i (jI v.1)).1 47 k := congrFun (sI_a _ (by decide) _ _) k
    have e8 : (sI h 47 i (jI v.1)).1 48 k = h.1 48 k := congrFun (sI_a _ (by decide) _ _) k
    unfold upN
    by_cases g : k = i
    · subst g
      rw [if_pos rfl]
      exact ⟨e7.trans (sI_at _ _ _ _), sI_at _ _ _ _, hv1, hv2⟩
    · rw [if_neg g]
      obtain ⟨b1, b2, b3⟩ := a3 k hk
      exact ⟨e7.trans ((sI_k _ _ g _).trans b1), (sI_k _ _ g _).trans (e8.trans b2), b3⟩
/-- FormHouse$Table.rise()V; cuts at [2, 21, 27, 42, 50, 53, 89, 105, 114, 137] -/
def cl_69_3 : List mj_E := (115, false, .getfield 10, 3, 7, 2, 2, 0, 0) ::
  (118, false, .iload 5, 2, 0, 0, 0, 0, 0) ::
  (120, false, .iload_n 3, 1, 0, 0, 0, 0, 0) ::
  (121, false, .iastore, 1, 0, 0, 0, 0, 0) ::
  (122, false, .aload_n 0, 1, 0, 0, 0, 0, 0) ::
  (123, false, .getfield 16, 3, 7, 3, 2, 0, 0) ::
  (126, false, .iload 5, 2, 0, 0, 0, 0, 0) ::
  (128, false, .iload 4, 2, 0, 0, 0, 0, 0) ::
  (130, false, .iastore, 1, 0, 0, 0, 0, 0) ::
  (131, false, .iinc 2 1, 3, 0, 0, 0, jI 1, 0) ::
  (134, false, .goto (-107), 3, 19, 0, 0, 0, 0) ::
  (137, true, .iload_n 1, 1, 0, 0, 0, 0, 0) ::
  (138, false, .iconst 3, 1, 0, 0, 0, jI 3, 0) ::
  (139, false, .idiv, 1, 0, 0, 0, 0, 0) ::
  (140, false, .istore_n 1, 1, 0, 0, 0, 0, 0) ::
  (141, false, .goto (-120), 3, 15, 0, 0, 0, 0) ::
  (144, false, .return_, 1, 0, 0, 0, 0, 0) ::
  []
def cl_69_2 : List mj_E := (77, false, .iload 5, 2, 0, 0, 0, 0, 0) ::
  (79, false, .aload_n 0, 1, 0, 0, 0, 0, 0) ::
  (80, false, .getfield 10, 3, 7, 2, 2, 0, 0) ::
  (83, false, .iload 5, 2, 0, 0, 0, 0, 0) ::
  (85, false, .iload_n 1, 1, 0, 0, 0, 0, 0) ::
  (86, false, .isub, 1, 0, 0, 0, 0, 0) ::
  (87, false, .iaload, 1, 0, 0, 0, 0, 0) ::
  (88, false, .iastore, 1, 0, 0, 0, 0, 0) ::
  (89, true, .aload_n 0, 1, 0, 0, 0, 0, 0) ::
  (90, false, .getfield 16, 3, 7, 3, 2, 0, 0) ::
  (93, false, .iload 5, 2, 0, 0, 0, 0, 0) ::
  (95, false, .aload_n 0, 1, 0, 0, 0, 0, 0) ::
  (96, false, .getfield 16, 3, 7, 3, 2, 0, 0) ::
  (99, false, .iload 5, 2, 0, 0, 0, 0, 0) ::
  (101, false, .iload_n 1, 1, 0, 0, 0, 0, 0) ::
  (102, false, .isub, 1, 0, 0, 0, 0, 0) ::
  (103, false, .iaload, 1, 0, 0, 0, 0, 0) ::
  (104, false, .iastore, 1, 0, 0, 0, 0, 0) ::
  (105, true, .iload 5, 2, 0, 0, 0, 0, 0) ::
  (107, false, .iload_n 1, 1, 0, 0, 0, 0, 0) ::
  (108, false, .isub, 1, 0, 0, 0, 0, 0) ::
  (109, false, .istore 5, 2, 0, 0, 0, 0, 0) ::
  (111, false, .goto (-58), 3, 35, 0, 0, 0, 0) ::
  (114, true, .aload_n 0, 1, 0, 0, 0, 0, 0) ::
  cl_69_3
def cl_69_1 : List mj_E := (36, false, .getfield 10, 3, 7, 2, 2, 0, 0) ::
  (39, false, .iload_n 2, 1, 0, 0, 0, 0, 0) ::
  (40, false, .iaload, 1, 0, 0, 0, 0, 0) ::
  (41, false, .istore_n 3, 1, 0, 0, 0, 0, 0) ::
  (42, true, .aload_n 0, 1, 0, 0, 0, 0, 0) ::
  (43, false, .getfield 16, 3, 7, 3, 2, 0, 0) ::
  (46, false, .iload_n 2, 1, 0, 0, 0, 0, 0) ::
  (47, false, .iaload, 1, 0, 0, 0, 0, 0) ::
  (48, false, .istore 4, 2, 0, 0, 0, 0, 0) ::
  (50, true, .iload_n 2, 1, 0, 0, 0, 0, 0) ::
  (51, false, .istore 5, 2, 0, 0, 0, 0, 0) ::
  (53, true, .iload 5, 2, 0, 0, 0, 0, 0) ::
  (55, false, .iload_n 1, 1, 0, 0, 0, 0, 0) ::
  (56, false, .if_icmp .lt 58, 3, 71, 0, 0, 0, 0) ::
  (59, false, .aload_n 0, 1, 0, 0, 0, 0, 0) ::
  (60, false, .iload_n 3, 1, 0, 0, 0, 0, 0) ::
  (61, false, .iload 4, 2, 0, 0, 0, 0, 0) ::
  (63, false, .iload 5, 2, 0, 0, 0, 0, 0) ::
  (65, false, .iload_n 1, 1, 0, 0, 0, 0, 0) ::
  (66, false, .isub, 1, 0, 0, 0, 0, 0) ::
  (67, false, .invokevirtual 94, 3, 70, 3, 7, 0, 0) ::
  (70, false, .ifCond .eq 44, 3, 71, 0, 0, 0, 0) ::
  (73, false, .aload_n 0, 1, 0, 0, 0, 0, 0) ::
  (74, false, .getfield 10, 3, 7, 2, 2, 0, 0) ::
  cl_69_2
def cl_69_0 : List mj_E := (0, false, .iconst 1, 1, 0, 0, 0, jI 1, 0) ::
  (1, false, .istore_n 1, 1, 0, 0, 0, 0, 0) ::
  (2, true, .iload_n 1, 1, 0, 0, 0, 0, 0) ::
  (3, false, .aload_n 0, 1, 0, 0, 0, 0, 0) ::
  (4, false, .getfield 37, 3, 7, 1, 0, 0, 0) ::
  (7, false, .iconst 3, 1, 0, 0, 0, jI 3, 0) ::
  (8, false, .idiv, 1, 0, 0, 0, 0, 0) ::
  (9, false, .if_icmp .ge 12, 3, 15, 0, 0, 0, 0) ::
  (12, false, .iconst 3, 1, 0, 0, 0, jI 3, 0) ::
  (13, false, .iload_n 1, 1, 0, 0, 0, 0, 0) ::
  (14, false, .imul, 1, 0, 0, 0, 0, 0) ::
  (15, false, .iconst 1, 1, 0, 0, 0, jI 1, 0) ::
  (16, false, .iadd, 1, 0, 0, 0, 0, 0) ::
  (17, false, .istore_n 1, 1, 0, 0, 0, 0, 0) ::
  (18, false, .goto (-16), 3, 2, 0, 0, 0, 0) ::
  (21, true, .iload_n 1, 1, 0, 0, 0, 0, 0) ::
  (22, false, .ifCond .le 122, 3, 88, 0, 0, 0, 0) ::
  (25, false, .iload_n 1, 1, 0, 0, 0, 0, 0) ::
  (26, false, .istore_n 2, 1, 0, 0, 0, 0, 0) ::
  (27, true, .iload_n 2, 1, 0, 0, 0, 0, 0) ::
  (28, false, .aload_n 0, 1, 0, 0, 0, 0, 0) ::
  (29, false, .getfield 37, 3, 7, 1, 0, 0, 0) ::
  (32, false, .if_icmp .ge 105, 3, 83, 0, 0, 0, 0) ::
  (35, false, .aload_n 0, 1, 0, 0, 0, 0, 0) ::
  cl_69_1
def cd_69 : List mj_E := cl_69_0
def cx_69 : mj_X := (0, [], [])
theorem tb_69 : mj_tab (mj_mt 69) cx_69 cd_69 mj_mh [(0, 0, 0), (0, 0, 0), (0, 0, 0), (0, 0, 0), (1234, 0, 0), (0, 0, 0), (0, 0, 0), (0, 0, 0), (0, 0, 0), (0, 0, 0), (0, 0, 0), (0, 0, 0), (0, 0, 0), (0, 0, 0), (0, 0, 0), (0, 0, 0), (0, 0, 0), (0, 0, 0), (0, 0, 0), (0, 0, 0), (0, 0, 0), (1234, 0, 0), (0, 0, 0), (0, 0, 0), (1236, 0, 0), (0, 0, 0), (0, 0, 0), (0, 0, 0), (0, 0, 0), (1237, 0, 0), (0, 0, 0), (0, 0, 0), (0, 0, 0), (0, 0, 0), (0, 0, 0), (0, 0, 0), (0, 0, 0), (0, 0, 0), (0, 0, 0), (0, 0, 0), (0, 0, 0), (0, 0, 0), (0, 0, 0), (0, 0, 0), (4074, 0, 0), (0, 0, 0), (0, 0, 0), (1236, 0, 0), (0, 0, 0), (0, 0, 0), (1236, 0, 0), (0, 0, 0), (0, 0, 0), (0, 0, 0), (0, 0, 0), (0, 0, 0), (0, 0, 0), (1237, 0, 0), (0, 0, 0), (0, 0, 0), (1237, 0, 0), (0, 0, 0), (0, 0, 0), (0, 0, 0), (0, 0, 0), (0, 0, 0), (0, 0, 0), (0, 0, 0), (0, 0, 0), (0, 0, 0), (0, 0, 0), (0, 0, 0), (1236, 0, 0), (0, 0, 0), (0, 0, 0), (0, 0, 0), (0, 0, 0), (1237, 0, 0), (0, 0, 0), (0, 0, 0), (0, 0, 0), (0, 0, 0), (0, 0, 0), (0, 0, 0), (0, 0, 0), (0, 0, 0), (0, 0, 0), (0, 0, 0), (0, 0, 0)] = true := mj_tab_f (by decide +kernel)
theorem ct_69 (G : mj_G) {h : mj_H} (L : isLay h) {n : Nat} {A : Nat → pI} (ha : isTa h n A) : mj_Ct G (mj_mt 69) 0 0 [.ref 46] h (fun o h' => o = .returned none ∧ ∃ B, isTa h' n B ∧ PermN n A B ∧ srt n B ∧ Fr in3 noT h h') := by
  have hn := ha.2.1
  refine mj_Ct_of mj_ok tb_69 rfl rfl (Nat.le_of_ble_eq_true rfl) (fun Run hR => ?_)
  have vin7 : ∀ {h' : mj_H} {i : Nat}, isLay h' → i < 40960 → vp_in (jI i) (hN h' 47) := by
    intro h' i L' hi
    rw [show hN h' 47 = 40960 from L'.N 46 rfl]
    exact jI_in (by omega) (by omega) (by omega)
  have vin8 : ∀ {h' : mj_H} {i : Nat}, isLay h' → i < 40960 → vp_in (jI i) (hN h' 48) := by
    intro h' i L' hi
    rw [show hN h' 48 = 40960 from L'.N 47 rfl]
    exact jI_in (by omega) (by omega) (by omega)
  have nat : ∀ {i : Nat}, i < 40960 → (jI (i : Int)).toNatClampNeg = i := by
    intro i hi
    rw [jI_nat (by omega) (by omega), Int.toNat_natCast]
  -- one pass with a gap
  have pass : ∀ (g : Nat), 0 < g → g ≤ 40960 → (∀ (B : Nat → pI) (h' : mj_H) (x2 x3 x4 x5 : Option Value), isTa h' n B → PermN n A B → (g = 1 → srt n B) → Fr in3 noT h h' → Run 137 [some (.ref 46), some (.int (jI g)), x2, x3, x4, x5] [] h' (0, 0)) → ∀ (m k : Nat) (kI : Int32) (X : Nat → pI) (h' : mj_H) (x3 x4 x5 : Option Value), n ≤ k + m → isTa h' n X → PermN n A X → (g = 1 → srt (min k n) X) → Fr in3 noT h h' → kI = jI k → k < 2147483648 → Run 27 [some (.ref 46), some (.int (jI g)), some (.int kI), x3, x4, x5] [] h' (0, 0) := by
    intro g g0 gb done m
    induction m with
    | zero =>
      rintro k kI X h' x3 x4 x5 hm hX hP hS F rfl hk
      have L0 := L.F F (fun _ z => z.elim)
      refine hR 60 19 _ _ _ _ _ _ rfl ?_
      refine ⟨L0.K 46 rfl, ?_⟩
      rw [hX.1]
      refine ⟨fun c => ?_, fun c => ?_⟩
      · exact done X h' _ _ _ _ hX hP (fun e => by have := hS e; rwa [show min k n = n by omega] at this) F
      · simp (disch := omega) only [mj_lcm, jI_lt, jI_le, jI_eq, jL_lt, jL_le, jL_eq, jI_lt0, jI_0le, jI_0lt, jI_le0, jI_eq0, jL_eq0, jI_L, jI_add, jI_sub, jI_mul, jI_neg, jL_add, jL_sub, jL_mul, jL_neg, jL_I, jI_div, jI_mod, jL_div, jL_mod] at c
        omega
    | succ m ih =>
      rintro k kI X h' x3 x4 x5 hm hX hP hS F rfl hk
      have L0 := L.F F (fun _ z => z.elim)
      refine hR 60 19 _ _ _ _ _ _ rfl ?_
      refine ⟨L0.K 46 rfl, ?_⟩
      rw [hX.1]
      refine ⟨fun c => ?_, fun c => ?_⟩
      · simp (disch := omega) only [mj_lcm, jI_lt, jI_le, jI_eq, jL_lt, jL_le, jL_eq, jI_lt0, jI_0le, jI_0lt, jI_le0, jI_eq0, jL_eq0, jI_L, jI_add, jI_sub, jI_mul, jI_neg, jL_add, jL_sub, jL_mul, jL_neg, jL_I, jI_div, jI_mod, jL_div, jL_mod] at c
        exact done X h' _ _ _ _ hX hP (fun e => by have := hS e; rwa [show min k n = n by omega] at this) F
      · simp (disch := omega) only [mj_lcm, jI_lt, jI_le, jI_eq, jL_lt, jL_le, jL_eq, jI_lt0, jI_0le, jI_0lt, jI_le0, jI_eq0, jL_eq0, jI_L, jI_add, jI_sub, jI_mul, jI_neg, jL_add, jL_sub, jL_mul, jL_neg, jL_I, jI_div, jI_mod, jL_div, jL_mod] at c
        have hkn : k < n := by omega
        obtain ⟨v1, v2, v3, v4⟩ := hX.2.2 k hkn
        generalize hv : X k = v at v1 v2 v3 v4
        -- the value is laid down
        have r114 : ∀ (i : Nat) (Y : Nat → pI) (h2 : mj_H), i ≤ k → isTa h2 n Y → PermN n A (upN Y i v) → (g = 1 → srt (k + 1) (upN Y i v)) → Fr in3 noT h h2 → Run 114 [some (.ref 46), some (.int (jI g)), some (.int (jI k)), some (.int (jI v.1)), some (.int (jI v.2)), some (.int (jI i))] [] h2 (0, 0) := by
          intro i Y h2 hi hY hPY hSY F2
          have L2 := L.F F2 (fun _ z => z.elim)
          refine hR 60 71 _ _ _ _ _ _ rfl ?_
          refine ⟨L2.K 46 rfl, _, L2.R 46 2 _ rfl, L2.K 47 rfl, vin7 L2 (by omega), ?_⟩
          rw [nat (by omega)]
          have F3 : Fr in3 noT h (sI h2 47 i (jI v.1)) := F2.sI (by omega) _ _
          have L3 := L.F F3 (fun _ z => z.elim)
          refine ⟨L3.K 46 rfl, _, L3.R 46 3 _ rfl, L3.K 48 rfl, vin8 L3 (by omega), ?_⟩
          rw [nat (by omega)]
          refine ih (k + 1) _ (upN Y i v) _ _ _ _ (by omega) (ta_put hY v3 v4) hPY (fun e => ?_) (F3.sI (by omega) _ _) (jI_add _ _) (by omega)
          rw [show min (k + 1) n = k + 1 by omega]
          exact hSY e
        have inner : ∀ (t i : Nat) (iI : Int32) (Y : Nat → pI) (h2 : mj_H), i ≤ t → i ≤ k → isTa h2 n Y → PermN n A (upN Y i v) → (g = 1 → hole k i v Y) → Fr in3 noT h h2 → iI = jI i → Run 53 [some (.ref 46), some (.int (jI g)), some (.int (jI k)), some (.int (jI v.1)), some (.int (jI v.2)), some (.int iI)] [] h2 (0, 0) := by
          intro t
          induction t with
          | zero =>
            rintro i iI Y h2 ht hi hY hPY hSY F2 rfl
            refine hR 60 35 _ _ _ _ _ _ rfl ?_
            refine ⟨fun c2 => ?_, fun c2 => ?_⟩
            · exact r114 i Y h2 hi hY hPY (fun e => hole_fill hi (hSY e) (Or.inl (by omega))) F2
            · simp (disch := omega) only [mj_lcm, jI_lt, jI_le, jI_eq, jL_lt, jL_le, jL_eq, jI_lt0, jI_0le, jI_0lt, jI_le0, jI_eq0, jL_eq0, jI_L, jI_add, jI_sub, jI_mul, jI_neg, jL_add, jL_sub, jL_mul, jL_neg, jL_I, jI_div, jI_mod, jL_div, jL_mod] at c2
              omega
          | succ t iht =>
            rintro i iI Y h2 ht hi hY hPY hSY F2 rfl
            have L2 := L.F F2 (fun _ z => z.elim)
            refine hR 60 35 _ _ _ _ _ _ rfl ?_
            refine ⟨fun c2 => ?_, fun c2 => ?_⟩
            · simp (disch := omega) only [mj_lcm, jI_lt, jI_le, jI_eq, jL_lt, jL_le, jL_eq, jI_lt0, jI_0le, jI_0lt, jI_le0, jI_eq0, jL_eq0, jI_L, jI_add, jI_sub, jI_mul, jI_neg, jL_add, jL_sub, jL_mul, jL_neg, jL_I, jI_div, jI_mod, jL_div, jL_mod] at c2
              exact r114 i Y h2 hi hY hPY (fun e => hole_fill hi (hSY e) (Or.inl (by omega))) F2
            · simp (disch := omega) only [mj_lcm, jI_lt, jI_le, jI_eq, jL_lt, jL_le, jL_eq, jI_lt0, jI_0le, jI_0lt, jI_le0, jI_eq0, jL_eq0, jI_L, jI_add, jI_sub, jI_mul, jI_neg, jL_add, jL_sub, jL_mul, jL_neg, jL_I, jI_div, jI_mod, jL_div, jL_mod] at c2
              have eg : jI (i : Int) - jI (g : Int) = jI ((i - g : Nat) : Int) := by
                rw [jI_sub]
                congr 1
                omega
              have c70 := ct_70 G L2 hY.tl (a := v.1) (b := v.2) (k := i - g) (ta_at Y (show i - g < n by omega)) (by omega) (by omega)
              rw [← eg] at c70
              refine ⟨L2.K 46 rfl, jcall c70 ?_⟩
              by_cases hbf : v.1 < (Y (i - g)).1 ∨ (v.1 = (Y (i - g)).1 ∧ v.2 < (Y (i - g)).2)
              · rw [if_pos hbf]
                refine ⟨fun c3 => absurd c3 (by decide), fun c3 => ?_⟩
                obtain ⟨y1, y2, y3, y4⟩ := hY.2.2 (i - g) (by omega)
                refine ⟨L2.K 46 rfl, _, L2.R 46 2 _ rfl, L2.K 46 rfl, _, L2.R 46 2 _ rfl, Or.inl (L2.K 47 rfl), ?_, L2.K 47 rfl, vin7 L2 (by omega), ?_⟩
                · rw [eg]
                  exact vin7 L2 (by omega)
                · rw [eg, nat (by omega), nat (by omega), show hI h2 47 (i - g) = jI (Y (i - g)).1 from y1]
                  have F3 : Fr in3 noT h (sI h2 47 i (jI (Y (i - g)).1)) := F2.sI (by omega) _ _
                  have L3 := L.F F3 (fun _ z => z.elim)
                  have y2' : hI (sI h2 47 i (jI (Y (i - g)).1)) 48 (i - g) = jI (Y (i - g)).2 := (congrFun (sI_a _ (by decide) _ _) _).trans y2
                  have r105 : Run 105 [some (.ref 46), some (.int (jI g)), some (.int (jI k)), some (.int (jI v.1)), some (.int (jI v.2)), some (.int (jI i))] [] (sI (sI h2 47 i (jI (Y (i - g)).1)) 48 i (jI (Y (i - g)).2)) (0, 0) := by
                    refine hR 60 66 _ _ _ _ _ _ rfl ?_
                    refine iht (i - g) _ (upN Y i (Y (i - g))) _ (by omega) (by omega) (ta_put hY y3 y4) (hPY.move (by omega) (by omega) (by omega)) (fun e => ?_) (F3.sI (by omega) _ _) eg
                    subst e
                    refine hole_move hi (by omega) (hSY rfl) ?_
                    unfold le2
                    omega
                  have r89 : Run 89 [some (.ref 46), some (.int (jI g)), some (.int (jI k)), some (.int (jI v.1)), some (.int (jI v.2)), some (.int (jI i))] [] (sI h2 47 i (jI (Y (i - g)).1)) (0, 0) := by
                    refine hR 60 56 _ _ _ _ _ _ rfl ?_
                    refine ⟨L3.K 46 rfl, _, L3.R 46 3 _ rfl, L3.K 46 rfl, _, L3.R 46 3 _ rfl, Or.inl (L3.K 48 rfl), ?_, L3.K 48 rfl, vin8 L3 (by omega), ?_⟩
                    · rw [eg]
                      exact vin8 L3 (by omega)
                    · rw [eg, nat (by omega), nat (by omega), y2']
                      exact r105
                  exact r89
              · rw [if_neg hbf]
                refine ⟨fun c3 => ?_, fun c3 => absurd rfl c3⟩
                refine r114 i Y h2 hi hY hPY (fun e => hole_fill hi (hSY e) (Or.inr ?_)) F2
                subst e
                unfold le2
                omega
        have start : ∀ (aI bI : Int32) (x5 : Option Value), aI = jI v.1 → bI = jI v.2 → Run 50 [some (.ref 46), some (.int (jI g)), some (.int (jI k)), some (.int aI), some (.int bI), x5] [] h' (0, 0) := by
          rintro aI bI x5 rfl rfl
          refine hR 60 33 _ _ _ _ _ _ rfl ?_
          refine inner k k _ X h' (Nat.le_refl _) (Nat.le_refl _) hX (hP.congr (fun i _ => ?_)) (fun e => hole_start ?_) F rfl
          · unfold upN
            by_cases e : i = k
            · rw [if_pos e, e, hv]
            · rw [if_neg e]
          · have := hS e
            rwa [show min k n = k by omega] at this
        have r42 : ∀ (aI : Int32) (x4 x5 : Option Value), aI = jI v.1 → Run 42 [some (.ref 46), some (.int (jI g)), some (.int (jI k)), some (.int aI), x4, x5] [] h' (0, 0) := by
          rintro aI x4 x5 e
          refine hR 60 28 _ _ _ _ _ _ rfl ?_
          refine ⟨L0.K 46 rfl, _, L0.R 46 3 _ rfl, Or.inl (L0.K 48 rfl), vin8 L0 (by omega), ?_⟩
          refine start _ _ _ e ?_
          rw [nat (by omega)]
          exact v2
        refine ⟨L0.K 46 rfl, _, L0.R 46 2 _ rfl, Or.inl (L0.K 47 rfl), vin7 L0 (by omega), ?_⟩
        refine r42 _ _ _ ?_
        rw [nat (by omega)]
        exact v1
  have down : ∀ (j : Nat) (gI : Int32) (B : Nat → pI) (h' : mj_H) (x2 x3 x4 x5 : Option Value), gapN j ≤ 40960 → isTa h' n B → PermN n A B → (j = 0 → srt n B) → Fr in3 noT h h' → gI = jI (gapN j) → Run 21 [some (.ref 46), some (.int gI), x2, x3, x4, x5] [] h' (0, 0) := by
    intro j
    induction j with
    | zero =>
      rintro gI B h' x2 x3 x4 x5 hg hB hP hS F rfl
      refine hR 60 15 _ _ _ _ _ _ rfl ?_
      refine ⟨fun c => ?_, fun c => absurd (by decide) c⟩
      exact ⟨rfl, B, hB, hP, hS rfl, F⟩
    | succ j ih =>
      rintro gI B h' x2 x3 x4 x5 hg hB hP hS F rfl
      have eg : gapN (j + 1) = 3 * gapN j + 1 := rfl
      refine hR 60 15 _ _ _ _ _ _ rfl ?_
      refine ⟨fun c => ?_, fun c => ?_⟩
      · simp (disch := omega) only [mj_lcm, jI_lt, jI_le, jI_eq, jL_lt, jL_le, jL_eq, jI_lt0, jI_0le, jI_0lt, jI_le0, jI_eq0, jL_eq0, jI_L, jI_add, jI_sub, jI_mul, jI_neg, jL_add, jL_sub, jL_mul, jL_neg, jL_I, jI_div, jI_mod, jL_div, jL_mod] at c
        omega
      · refine pass (gapN (j + 1)) (by omega) hg ?_ n (gapN (j + 1)) _ B h' _ _ _ (by omega) hB hP ?_ F rfl (by omega)
        · intro B2 h2 y2 y3 y4 y5 hB2 hP2 hS2 F2
          refine hR 60 83 _ _ _ _ _ _ rfl ?_
          refine ⟨by decide, ?_⟩
          refine ih _ B2 h2 _ _ _ _ (by omega) hB2 hP2 (fun e => hS2 (by rw [eg, e]; rfl)) F2 ?_
          rw [jI_div (by omega) (by omega) (by decide) (by decide), Int.tdiv_eq_ediv_of_nonneg (by omega)]
          congr 1
          omega
        · intro e i j' h1 h2
          omega
  have up : ∀ (m j : Nat) (gI : Int32) (x2 x3 x4 x5 : Option Value), 40960 ≤ gapN (j + 1) + m → gapN (j + 1) ≤ 40960 → gI = jI (gapN (j + 1)) → Run 2 [some (.ref 46), some (.int gI), x2, x3, x4, x5] [] h (0, 0) := by
    intro m
    induction m with
    | zero =>
      rintro j gI x2 x3 x4 x5 hm hg rfl
      refine hR 60 2 _ _ _ _ _ _ rfl ?_
      refine ⟨L.K 46 rfl, by decide, ?_⟩
      rw [ha.1, jI_div (by omega) (by omega) (by decide) (by decide), Int.tdiv_eq_ediv_of_nonneg (by omega)]
      refine ⟨fun c => ?_, fun c => ?_⟩
      · exact down (j + 1) _ A h _ _ _ _ hg ha (PermN.refl n A) (by omega) (Fr.refl _ _ _) rfl
      · simp (disch := omega) only [mj_lcm, jI_lt, jI_le, jI_eq, jL_lt, jL_le, jL_eq, jI_lt0, jI_0le, jI_0lt, jI_le0, jI_eq0, jL_eq0, jI_L, jI_add, jI_sub, jI_mul, jI_neg, jL_add, jL_sub, jL_mul, jL_neg, jL_I, jI_div, jI_mod, jL_div, jL_mod] at c
        omega
    | succ m ih =>
      rintro j gI x2 x3 x4 x5 hm hg rfl
      refine hR 60 2 _ _ _ _ _ _ rfl ?_
      refine ⟨L.K 46 rfl, by decide, ?_⟩
      rw [ha.1, jI_div (by omega) (by omega) (by decide) (by decide), Int.tdiv_eq_ediv_of_nonneg (by omega)]
      refine ⟨fun c => ?_, fun c => ?_⟩
      · exact down (j + 1) _ A h _ _ _ _ hg ha (PermN.refl n A) (by omega) (Fr.refl _ _ _) rfl
      · simp (disch := omega) only [mj_lcm, jI_lt, jI_le, jI_eq, jL_lt, jL_le, jL_eq, jI_lt0, jI_0le, jI_0lt, jI_le0, jI_eq0, jL_eq0, jI_L, jI_add, jI_sub, jI_mul, jI_neg, jL_add, jL_sub, jL_mul, jL_neg, jL_I, jI_div, jI_mod, jL_div, jL_mod] at c
        have e2 : gapN (j + 1 + 1) = 3 * gapN (j + 1) + 1 := rfl
        refine ih (j + 1) _ _ _ _ _ (by omega) (by omega) ?_
        rw [jI_mul, jI_add, e2]
        congr 1
  refine hR 60 0 _ _ _ _ _ _ rfl ?_
  exact up 40960 0 _ _ _ _ _ (by omega) (by decide) rfl
