/-! contract: all roots -/
theorem perm_onto {n : Nat} {σ : Nat → Nat} (h1 : ∀ i, i < n → σ i < n) (h2 : ∀ i j, i < n → j < n → σ i = σ j → i = j) {k : Nat} (hk : k < n) : ∃ i, i < n ∧ σ i = k := by
  by_cases g : ∃ i, i < n ∧ σ i = k
  · exact g
  exfalso
  obtain ⟨i, j, a1, a2, a3⟩ := pigeon n (fun i => if i < n then σ i else k) (by
    intro i hi
    show (if i < n then σ i else k) < n
    by_cases z : i < n
    · rw [if_pos z]
      exact h1 i z
    · rw [if_neg z]
      exact hk)
  have a4 : (if i < n then σ i else k) = (if j < n then σ j else k) := a3
  rw [if_pos (show i < n by omega)] at a4
  by_cases z : j < n
  · rw [if_pos z] at a4
    have := h2 i j (by omega) z a4
    omega
  · rw [if_neg z] at a4
    exact g ⟨i, by omega, a4⟩
def CB (pm l M : Nat) : Prop := (pm < 2 → l * l ≤ M) ∧ (pm < 3 → l * l ≤ 2 * M) ∧ 3 * (l * l) ≤ 8 * M
theorem CB.step {pm l M p l' q : Nat} (hp : Pr p) (h : CB pm l M) (g : cbd p l' q) (hpm : pm < p) : CB p (l * l') (M * q) := by
  have hp2 := hp.1
  have hp4 : p ≠ 4 := by
    rintro rfl
    have := hp.2 2 (by decide)
    omega
  obtain ⟨a1, a2, a3⟩ := h
  obtain ⟨b1, b2, b3⟩ := g
  have e : l * l' * (l * l') = l * l * (l' * l') := by grind
  unfold CB
  rw [e]
  generalize l * l = X at *
  generalize l' * l' = Y at *
  rcases (show p = 2 ∨ p = 3 ∨ 5 ≤ p by omega) with z | z | z
  · have c1 := a1 (by omega)
    have c2 := b1 z
    have c3 : X * Y ≤ M * (2 * q) := Nat.mul_le_mul c1 c2
    have c4 : M * (2 * q) = 2 * (M * q) := by grind
    rw [c4] at c3
    refine ⟨fun _ => by omega, fun _ => c3, by omega⟩
  · have c1 := a2 (by omega)
    have c2 := b2 z
    have c3 : X * (3 * Y) ≤ 2 * M * (4 * q) := Nat.mul_le_mul c1 c2
    have c4 : 2 * M * (4 * q) = 8 * (M * q) := by grind
    have c5 : X * (3 * Y) = 3 * (X * Y) := by grind
    rw [c4, c5] at c3
    refine ⟨fun _ => by omega, fun _ => by omega, c3⟩
  · have c2 := b3 z
    have c3 : 3 * X * Y ≤ 8 * M * q := Nat.mul_le_mul a3 c2
    rw [Nat.mul_assoc, Nat.mul_assoc] at c3
    refine ⟨fun _ => by omega, fun _ => by omega, c3⟩
theorem CB.le {pm l M : Nat} (h : CB pm l M) (hM : M ≤ 4000000) : l ≤ 4096 := by
  rcases Nat.lt_or_ge 4096 l with z | z
  · exfalso
    have h1 : 4097 * 4097 ≤ l * l := Nat.mul_le_mul z z
    have := h.2.2
    omega
  · exact z
theorem prodF_app2 (x y : List pN) : prodF (x ++ y) = prodF x * prodF y := by
  induction x with
  | nil => show prodF y = 1 * prodF y; omega
  | cons q t ih =>
    show q.1 ^ q.2 * prodF (t ++ y) = q.1 ^ q.2 * prodF t * prodF y
    rw [ih, Nat.mul_assoc]
theorem prodF_nd {p : Nat} (hp : Pr p) : ∀ fs : List pN, (∀ q : pN, q ∈ fs → Pr q.1 ∧ q.1 ≠ p) → ¬ p ∣ prodF fs
  | [], _, z => by
    have z1 : p ∣ 1 := z
    have := Nat.le_of_dvd (by decide) z1
    have := hp.1
    omega
  | q :: t, h, z => by
    have z' : p ∣ q.1 ^ q.2 * prodF t := z
    rcases pr_mul hp z' with k | k
    · have k2 := pr_pow_dvd hp _ k
      obtain ⟨a, b⟩ := h q (List.mem_cons_self ..)
      rcases a.2 p k2 with m | m
      · have := hp.1
        omega
      · exact b m.symm
    · exact prodF_nd hp t (fun q hq => h q (List.mem_cons_of_mem _ hq)) k
theorem fac_mid {N : Nat} {fs pre post : List pN} {p : pN} (h : FacP N fs) (e : fs = pre ++ p :: post) : (∀ q : pN, q ∈ pre → q.1 < p.1) ∧ ∀ q : pN, q ∈ post → p.1 < q.1 := by
  have hp : fs[pre.length]? = some p := by
    rw [e]
    exact at_mid pre p post
  constructor
  · intro q hq
    obtain ⟨i, hi⟩ := List.mem_iff_getElem?.1 hq
    have hl := lt_of_some hi
    refine h.2.2 i pre.length q p hl ?_ hp
    rw [e, List.getElem?_append_left hl]
    exact hi
  · intro q hq
    obtain ⟨i, hi⟩ := List.mem_iff_getElem?.1 hq
    refine h.2.2 pre.length (pre.length + 1 + i) p q (by omega) hp ?_
    rw [e, List.getElem?_append_right (by omega), show pre.length + 1 + i - pre.length = i + 1 by omega]
    exact hi
theorem rt_dead {M R : Nat} {d : Int} (hM : 0 < M) (a : RtQ M (rtD M d) []) : RtQ (M * R) (rtD (M * R) d) [] := by
  refine RtQ.nil (fun x hx z => ?_)
  have d1 : (M : Int) ∣ (x : Int) * x - d := Int.dvd_trans (Int.natCast_dvd_natCast.2 ⟨R, rfl⟩) z
  have m1 : x % M ∈ ([] : List Nat) := (a.2 _).2 ⟨Nat.mod_lt x hM, (rtD_mod (N := M) (x := x % M) (y := x) (Nat.mod_mod x M)).2 d1⟩
  cases m1
def ascL (B : List Nat) : Prop := ∀ (i j x y : Nat), i < j → B[i]? = some x → B[j]? = some y → x < y
/-- a sorted row holds the same numbers -/
theorem sort_list {n : Nat} {A : List Nat} (hA : A.length = n) (hn : A.Nodup) {X : Nat → pI} (hp : PermN n (fun i => ((A.getD i 0 : Int), 0)) X) (hs : srt n X) : ∃ B : List Nat, B.length = n ∧ ascL B ∧ B.Nodup ∧ (∀ x, x ∈ B ↔ x ∈ A) ∧ ∀ (i x : Nat), B[i]? = some x → X i = ((x : Int), 0) := by
  obtain ⟨σ, s1, s2, s3⟩ := hp
  have gA : ∀ k, k < n → A[k]? = some (A.getD k 0) := by
    intro k hk
    rw [List.getD_eq_getElem?_getD, List.getElem?_eq_getElem (by omega)]
    rfl
  have gB : ∀ (i x : Nat), ((List.range n).map (fun i => A.getD (σ i) 0))[i]? = some x → i < n ∧ x = A.getD (σ i) 0 := by
    intro i x hx
    have hi := lt_of_some hx
    rw [List.length_map, List.length_range] at hi
    rw [List.getElem?_map] at hx
    rw [List.getElem?_range hi] at hx
    exact ⟨hi, (Option.some.inj hx).symm⟩
  have asc : ascL ((List.range n).map (fun i => A.getD (σ i) 0)) := by
    intro i j x y hij hx hy
    obtain ⟨i1, rfl⟩ := gB i x hx
    obtain ⟨j1, rfl⟩ := gB j y hy
    have h1 := hs i j hij j1
    rw [s3 i i1, s3 j j1] at h1
    have h2 : A.getD (σ i) 0 ≠ A.getD (σ j) 0 := by
      intro e
      have a1 := gA (σ i) (s1 i i1)
      have a2 := gA (σ j) (s1 j j1)
      rw [← e] at a2
      have h3 := (List.getElem?_inj (by rw [hA]; exact s1 i i1) hn).1 (a1.trans a2.symm)
      have := s2 i j i1 j1 h3
      omega
    unfold le2 at h1
    have h1' : ((A.getD (σ i) 0 : Nat) : Int) < ((A.getD (σ j) 0 : Nat) : Int) ∨ (((A.getD (σ i) 0 : Nat) : Int) = ((A.getD (σ j) 0 : Nat) : Int) ∧ (0 : Int) ≤ 0) := h1
    omega
  refine ⟨(List.range n).map (fun i => A.getD (σ i) 0), by rw [List.length_map, List.length_range], asc, ?_, fun x => ?_, fun i x hx => ?_⟩
  · rw [List.Nodup, List.pairwise_iff_getElem]
    intro i j hi hj hij e
    have := asc i j _ _ hij (List.getElem?_eq_getElem hi) (List.getElem?_eq_getElem hj)
    omega
  · constructor
    · intro hx
      obtain ⟨i, hi⟩ := List.mem_iff_getElem?.1 hx
      obtain ⟨i1, rfl⟩ := gB i x hi
      exact List.mem_iff_getElem?.2 ⟨_, gA (σ i) (s1 i i1)⟩
    · intro hx
      obtain ⟨k, hk⟩ := List.mem_iff_getElem?.1 hx
      have hkn := lt_of_some hk
      obtain ⟨i, hi, he⟩ := perm_onto s1 s2 (show k < n by omega)
      refine List.mem_map.2 ⟨i, List.mem_range.2 hi, ?_⟩
      rw [he]
      have := gA k (by omega)
      rw [hk] at this
      exact (Option.some.inj this).symm
  · obtain ⟨i1, rfl⟩ := gB i x hx
    exact s3 i i1
/-- FormHouse$Roots.find(JLFormHouse$Factors;)I; cuts at [18, 42, 47, 73, 81, 94] -/
def cl_144_2 : List mj_E := (86, false, .istore 4, 2, 0, 0, 0, 0, 0) ::
  (88, false, .iinc 5 1, 3, 0, 0, 0, jI 1, 0) ::
  (91, false, .goto (-73), 3, 12, 0, 0, 0, 0) ::
  (94, true, .aload_n 0, 1, 0, 0, 0, 0, 0) ::
  (95, false, .getfield 9, 3, 14, 1, 2, 0, 0) ::
  (98, false, .aload_n 0, 1, 0, 0, 0, 0, 0) ::
  (99, false, .getfield 21, 3, 14, 0, 0, 0, 0) ::
  (102, false, .invokestatic 55, 3, 156, 2, 0, 0, 0) ::
  (105, false, .aload_n 0, 1, 0, 0, 0, 0, 0) ::
  (106, false, .getfield 21, 3, 14, 0, 0, 0, 0) ::
  (109, false, .ireturn, 1, 0, 0, 0, 0, 0) ::
  []
def cl_144_1 : List mj_E := (43, false, .iconst 0, 1, 0, 0, 0, jI 0, 0) ::
  (44, false, .putfield 32, 3, 14, 3, 0, 0, 0) ::
  (47, true, .aload_n 0, 1, 0, 0, 0, 0, 0) ::
  (48, false, .lload_n 1, 1, 0, 0, 0, 0, 0) ::
  (49, false, .iload 6, 2, 0, 0, 0, 0, 0) ::
  (51, false, .i2l, 1, 0, 0, 0, 0, 0) ::
  (52, false, .invokestatic 35, 3, 29, 2, 0, 0, 0) ::
  (55, false, .l2i, 1, 0, 0, 0, 0, 0) ::
  (56, false, .aload_n 3, 1, 0, 0, 0, 0, 0) ::
  (57, false, .getfield 41, 3, 13, 2, 2, 0, 0) ::
  (60, false, .iload 5, 2, 0, 0, 0, 0, 0) ::
  (62, false, .iaload, 1, 0, 0, 0, 0, 0) ::
  (63, false, .aload_n 3, 1, 0, 0, 0, 0, 0) ::
  (64, false, .getfield 44, 3, 13, 3, 2, 0, 0) ::
  (67, false, .iload 5, 2, 0, 0, 0, 0, 0) ::
  (69, false, .iaload, 1, 0, 0, 0, 0, 0) ::
  (70, false, .invokevirtual 47, 3, 147, 3, 14, 0, 0) ::
  (73, true, .aload_n 0, 1, 0, 0, 0, 0, 0) ::
  (74, false, .iload 4, 2, 0, 0, 0, 0, 0) ::
  (76, false, .iload 6, 2, 0, 0, 0, 0, 0) ::
  (78, false, .invokevirtual 51, 3, 155, 2, 14, 0, 0) ::
  (81, true, .iload 4, 2, 0, 0, 0, 0, 0) ::
  (83, false, .iload 6, 2, 0, 0, 0, 0, 0) ::
  (85, false, .imul, 1, 0, 0, 0, 0, 0) ::
  cl_144_2
def cl_144_0 : List mj_E := (0, false, .aload_n 0, 1, 0, 0, 0, 0, 0) ::
  (1, false, .iconst 1, 1, 0, 0, 0, jI 1, 0) ::
  (2, false, .putfield 21, 3, 14, 0, 0, 0, 0) ::
  (5, false, .aload_n 0, 1, 0, 0, 0, 0, 0) ::
  (6, false, .getfield 9, 3, 14, 1, 2, 0, 0) ::
  (9, false, .iconst 0, 1, 0, 0, 0, jI 0, 0) ::
  (10, false, .iconst 0, 1, 0, 0, 0, jI 0, 0) ::
  (11, false, .iastore, 1, 0, 0, 0, 0, 0) ::
  (12, false, .iconst 1, 1, 0, 0, 0, jI 1, 0) ::
  (13, false, .istore 4, 2, 0, 0, 0, 0, 0) ::
  (15, false, .iconst 0, 1, 0, 0, 0, jI 0, 0) ::
  (16, false, .istore 5, 2, 0, 0, 0, 0, 0) ::
  (18, true, .iload 5, 2, 0, 0, 0, 0, 0) ::
  (20, false, .aload_n 3, 1, 0, 0, 0, 0, 0) ::
  (21, false, .getfield 25, 3, 13, 1, 0, 0, 0) ::
  (24, false, .if_icmp .ge 70, 3, 51, 0, 0, 0, 0) ::
  (27, false, .aload_n 0, 1, 0, 0, 0, 0, 0) ::
  (28, false, .getfield 21, 3, 14, 0, 0, 0, 0) ::
  (31, false, .ifCond .le 63, 3, 51, 0, 0, 0, 0) ::
  (34, false, .aload_n 3, 1, 0, 0, 0, 0, 0) ::
  (35, false, .iload 5, 2, 0, 0, 0, 0, 0) ::
  (37, false, .invokevirtual 28, 3, 145, 1, 13, 0, 0) ::
  (40, false, .istore 6, 2, 0, 0, 0, 0, 0) ::
  (42, true, .aload_n 0, 1, 0, 0, 0, 0, 0) ::
  cl_144_1
def cd_144 : List mj_E := cl_144_0
def cx_144 : mj_X := (1, [], [])
theorem tb_144 : mj_tab (mj_mt 144) cx_144 cd_144 mj_mh [(0, 0, 0), (0, 0, 0), (2172, 0, 0), (0, 0, 0), (2173, 0, 0), (0, 0, 0), (0, 0, 0), (0, 0, 0), (0, 0, 0), (0, 0, 0), (0, 0, 0), (0, 0, 0), (0, 0, 0), (0, 0, 0), (2152, 0, 0), (0, 0, 0), (0, 0, 0), (2172, 0, 0), (0, 0, 0), (0, 0, 0), (0, 0, 0), (6012, 0, 0), (0, 0, 0), (0, 0, 0), (0, 0, 0), (2176, 0, 0), (0, 0, 0), (0, 0, 0), (0, 0, 0), (0, 0, 0), (6019, 0, 0), (0, 0, 0), (0, 0, 0), (2154, 0, 0), (0, 0, 0), (0, 0, 0), (0, 0, 0), (2156, 0, 0), (0, 0, 0), (0, 0, 0), (6020, 0, 0), (0, 0, 0), (0, 0, 0), (0, 0, 0), (6053, 0, 0), (0, 0, 0), (0, 0, 0), (0, 0, 0), (0, 0, 0), (0, 0, 0), (0, 0, 0), (0, 0, 0), (2173, 0, 0), (0, 0, 0), (2172, 0, 0), (6057, 0, 0), (0, 0, 0), (2172, 0, 0), (0, 0, 0)] = true := mj_tab_f (by decide +kernel)
theorem ct_144 (G : mj_G) {h : mj_H} (L : isLay h) {a b : Nat} (hr : isRt h a b) {fs : List pN} (hf : isFc h fs) {N : Nat} (hNb : 0 < N ∧ N ≤ 4000000) (hF : FacP N fs) {d : Int} (hd : -1099511627776 < d ∧ d < 1099511627776) : mj_Ct G (mj_mt 144) 0 0 [.ref 73, .long (jL d), .ref 70] h (fun o h' => Fr inRt is73 h h' ∧ ∃ (a' b' : Nat) (B : List Nat), o = .returned (some (.int (jI B.length))) ∧ isOf h' a' b' B ∧ ascL B ∧ RtQ N (rtD N d) B) := by
  have nat : ∀ {i : Nat}, i < 4096 → (jI (i : Int)).toNatClampNeg = i := by
    intro i hi
    rw [jI_nat (by omega) (by omega), Int.toNat_natCast]
  obtain ⟨g1, g2, g3⟩ := hf
  obtain ⟨hF1, hF2, hF3⟩ := hF
  refine mj_Ct_of mj_ok tb_144 rfl rfl (Nat.le_of_ble_eq_true rfl) (fun Run hR => ?_)
  have r94 : ∀ (h' : mj_H) (a b : Nat) (A : List Nat) (x4 x5 x6 : Option Value), Fr inRt is73 h h' → isOf h' a b A → RtQ N (rtD N d) A → Run 94 [some (.ref 73), some (.long (jL d)), none, some (.ref 70), x4, x5, x6] [] h' (0, 0) := by
    intro h' a b A x4 x5 x6 F ho hA
    have L' := L.F F (fun _ z => by omega)
    obtain ⟨hr', hm', hl', hw'⟩ := ho
    have hKa : hK h' a = 1 ∧ hN h' a = 4096 := by
      rcases hr'.2.2.2 with ⟨rfl, _⟩ | ⟨rfl, _⟩
      · exact ⟨L'.K 74 rfl, L'.N 73 rfl⟩
      · exact ⟨L'.K 75 rfl, L'.N 74 rfl⟩
    have ha7 : inRt a ∧ a ≠ 73 := by
      rcases hr'.2.2.2 with ⟨rfl, _⟩ | ⟨rfl, _⟩ <;> omega
    have hAx : ∀ i, i < A.length → A[i]? = some (A.getD i 0) := by
      intro k hk
      rw [List.getD_eq_getElem?_getD, List.getElem?_eq_getElem hk]
      rfl
    have hia : isIa h' a A.length (fun i => ((A.getD i 0 : Int), 0)) := by
      intro i hi
      have h1 := hAx i hi
      have h2 := ((hA.2 _).1 (List.mem_iff_getElem?.2 ⟨_, h1⟩)).1
      refine ⟨hw' _ _ h1, ?_, rfl⟩
      show -1073741824 < ((A.getD i 0 : Nat) : Int) ∧ ((A.getD i 0 : Nat) : Int) < 1073741824
      omega
    have c156 := ct_156 G hKa.1 hKa.2 hl' hia
    rw [← hm'] at c156
    refine hR 60 51 _ _ _ _ _ _ rfl ?_
    refine ⟨L'.K 73 rfl, _, hr'.1, L'.K 73 rfl, jcallP c156 ?_⟩
    rintro o h3 ⟨rfl, X, x1, x2, x3, F3⟩
    have L3 := L'.fr F3.1
    have F4 : Fr inRt is73 h h3 := F.trans (F3.to is73 (fun x hx => by
      have : x = a := List.mem_singleton.1 hx
      rw [this]
      exact ha7.1))
    obtain ⟨B, b1, b2, b3, b4, b5⟩ := sort_list rfl hA.1 x2 x3
    refine ⟨L3.K 73 rfl, F4, a, b, B, ?_, ⟨hr'.fr F3, ?_, by omega, ?_⟩, b2, b3, fun x => ?_⟩
    · rw [show hI h3 73 0 = hI h' 73 0 from congrFun (F3.2 73 (by simp; omega)) 0, hm', b1]
    · rw [show hI h3 73 0 = hI h' 73 0 from congrFun (F3.2 73 (by simp; omega)) 0, hm', b1]
    · intro i x hx
      have := lt_of_some hx
      have h5 := (x1 i (by omega)).1
      rw [b5 i x hx] at h5
      exact h5
    · rw [b4 x]
      exact hA.2 x
  have r18 : ∀ (post pre : List pN) (h' : mj_H) (a b pm : Nat) (A : List Nat) (MI iI : Int32) (x6 : Option Value), fs = pre ++ post → Fr inRt is73 h h' → isOf h' a b A → RtQ (prodF pre) (rtD (prodF pre) d) A → (∀ p : pN, p ∈ post → pm < p.1) → CB pm A.length (prodF pre) → MI = jI (prodF pre) → iI = jI pre.length → Run 18 [some (.ref 73), some (.long (jL d)), none, some (.ref 70), some (.int MI), some (.int iI), x6] [] h' (0, 0) := by
    intro post
    induction post with
    | nil =>
      rintro pre h' a b pm A MI iI x6 hpre F ho hA hpm hCB rfl rfl
      have L' := L.F F (fun _ z => by omega)
      have e0 : hI h' 70 1 = jI fs.length := (F.I (by omega) _).trans g1
      have hp : fs.length = pre.length := by rw [hpre, List.append_nil]
      have hpN : prodF pre = N := by
        rw [← hF1, hpre, List.append_nil]
      rw [hpN] at hA
      refine hR 60 12 _ _ _ _ _ _ rfl ?_
      refine ⟨L'.K 70 rfl, fun c => ?_, fun c => ?_⟩
      · exact r94 h' a b A _ _ _ F ho hA
      · rw [e0] at c
        simp (disch := omega) only [mj_lcm, jI_lt, jI_le, jI_eq, jL_lt, jL_le, jL_eq, jI_lt0, jI_0le, jI_0lt, jI_le0, jI_eq0, jL_eq0, jI_L, jI_add, jI_sub, jI_mul, jI_neg, jL_add, jL_sub, jL_mul, jL_neg, jL_I, jI_div, jI_mod, jL_div, jL_mod] at c
        omega
    | cons p post ih =>
      rintro pre h' a b pm A MI iI x6 hpre F ho hA hpm hCB rfl rfl
      have L' := L.F F (fun _ z => by omega)
      have e0 : hI h' 70 1 = jI fs.length := (F.I (by omega) _).trans g1
      have hfp : fs[pre.length]? = some p := by
        rw [hpre]
        exact at_mid pre p post
      have hlt := lt_of_some hfp
      have hpm1 := hpm p (List.mem_cons_self ..)
      have hpf : p ∈ fs := List.mem_iff_getElem?.2 ⟨_, hfp⟩
      obtain ⟨pp, pe⟩ := hF2 p hpf
      obtain ⟨m1, m2⟩ := fac_mid ⟨hF1, hF2, hF3⟩ hpre
      have hNs : prodF pre * (p.1 ^ p.2 * prodF post) = N := by
        rw [← hF1, hpre, prodF_app2]
        rfl
      have hM0 : 0 < prodF pre := by
        rcases Nat.lt_or_ge 0 (prodF pre) with z | z
        · exact z
        · have : prodF pre = 0 := by omega
          rw [this, Nat.zero_mul] at hNs
          omega
      have hR0 : 0 < prodF post := by
        rcases Nat.lt_or_ge 0 (prodF post) with z | z
        · exact z
        · have : prodF post = 0 := by omega
          rw [this, Nat.mul_zero, Nat.mul_zero] at hNs
          omega
      have hq1 : 1 < p.1 ^ p.2 := by
        have h1 := pp.1
        have : p.1 ^ 1 ≤ p.1 ^ p.2 := Nat.pow_le_pow_right (by omega) pe
        rw [Nat.pow_one] at this
        omega
      have hMq : prodF pre * p.1 ^ p.2 ≤ N := by
        rw [← hNs, ← Nat.mul_assoc]
        exact Nat.le_mul_of_pos_right _ hR0
      have hqN : p.1 ^ p.2 ≤ N := Nat.le_trans (Nat.le_mul_of_pos_left _ hM0) hMq
      have hp2 := pp.1
      have hpq : p.1 ≤ p.1 ^ p.2 := by
        have : p.1 ^ 1 ≤ p.1 ^ p.2 := Nat.pow_le_pow_right (by omega) pe
        rwa [Nat.pow_one] at this
      have heb : p.2 ≤ 4000000 := by
        have h5 : p.2 < 2 ^ p.2 := Nat.lt_two_pow_self
        have h6 : 2 ^ p.2 ≤ p.1 ^ p.2 := Nat.pow_le_pow_left hp2 _
        omega
      have hcop : Nat.gcd (prodF pre) (p.1 ^ p.2) = 1 := by
        rw [Nat.gcd_comm]
        exact pr_cop_pow pp (prodF_nd pp pre (fun q hq => ⟨(hF2 q (by rw [hpre]; exact List.mem_append_left _ hq)).1, by have := m1 q hq; omega⟩)) p.2
      have hnext : prodF (pre ++ [p]) = prodF pre * p.1 ^ p.2 := prodF_app pre p
      refine hR 60 12 _ _ _ _ _ _ rfl ?_
      refine ⟨L'.K 70 rfl, fun c => ?_, fun c => ⟨L'.K 73 rfl, fun c2 => ?_, fun c2 => ?_⟩⟩
      · rw [e0] at c
        simp (disch := omega) only [mj_lcm, jI_lt, jI_le, jI_eq, jL_lt, jL_le, jL_eq, jI_lt0, jI_0le, jI_0lt, jI_le0, jI_eq0, jL_eq0, jI_L, jI_add, jI_sub, jI_mul, jI_neg, jL_add, jL_sub, jL_mul, jL_neg, jL_I, jI_div, jI_mod, jL_div, jL_mod] at c
        omega
      · rw [ho.2.1] at c2
        have := ho.2.2.1
        simp (disch := omega) only [mj_lcm, jI_lt, jI_le, jI_eq, jL_lt, jL_le, jL_eq, jI_lt0, jI_0le, jI_0lt, jI_le0, jI_eq0, jL_eq0, jI_L, jI_add, jI_sub, jI_mul, jI_neg, jL_add, jL_sub, jL_mul, jL_neg, jL_I, jI_div, jI_mod, jL_div, jL_mod] at c2
        have hA0 : A = [] := List.eq_nil_of_length_eq_zero (by omega)
        refine r94 h' a b A _ _ _ F ho ?_
        rw [hA0] at hA ⊢
        rw [← hNs]
        exact rt_dead hM0 hA
      · have c145 := ct_145 G L' (hf := (⟨e0, g2, fun i q hq => ⟨(F.I (by omega) _).trans (g3 i q hq).1, (F.I (by omega) _).trans (g3 i q hq).2⟩⟩ : isFc h' fs)) hfp (by omega) (by omega) (by omega)
        refine ⟨L'.K 70 rfl, jcall c145 ?_⟩
        have r81 : ∀ (h3 : mj_H) (B : List Nat), Fr inRt is73 h h3 → isOf h3 b a B → RtQ (prodF pre * p.1 ^ p.2) (rtD (prodF pre * p.1 ^ p.2) d) B → CB p.1 B.length (prodF pre * p.1 ^ p.2) → Run 81 [some (.ref 73), some (.long (jL d)), none, some (.ref 70), some (.int (jI (prodF pre))), some (.int (jI pre.length)), some (.int (jI (p.1 ^ p.2 : Nat)))] [] h3 (0, 0) := by
          intro h3 B F3 ho3 hB hC3
          refine hR 60 45 _ _ _ _ _ _ rfl ?_
          refine ih (pre ++ [p]) h3 b a p.1 B _ _ _ ?_ F3 ho3 ?_ m2 ?_ ?_ ?_
          · rw [hpre, List.append_assoc]
            rfl
          · rw [hnext]
            exact hB
          · rw [hnext]
            exact hC3
          · rw [jI_mul, hnext, Int.natCast_mul]
          · rw [jI_add, List.length_append]
            rfl
        have r73 : ∀ (h3 : mj_H) (ls : List Nat), Fr inRt is73 h h3 → isOf h3 a b A → isLc (jI A.length) h3 ls → cbd p.1 ls.length (p.1 ^ p.2) → RtQ (p.1 ^ p.2) (rtD (p.1 ^ p.2) d) ls → Run 73 [some (.ref 73), some (.long (jL d)), none, some (.ref 70), some (.int (jI (prodF pre))), some (.int (jI pre.length)), some (.int (jI (p.1 ^ p.2 : Nat)))] [] h3 (0, 0) := by
          intro h3 ls F3 ho3 hl3 hc3 hr3
          have hC := hCB.step pp hc3 hpm1
          have c155 := ct_155 G (L.F F3 (fun _ z => by omega)) ho3 hl3 hM0 hq1 hcop (by omega) hA hr3 (hC.le (by omega))
          refine hR 60 41 _ _ _ _ _ _ rfl ?_
          refine ⟨(L.F F3 (fun _ z => by omega)).K 73 rfl, jcallP c155 ?_⟩
          rintro o h4 ⟨rfl, F4, B, b1, b2, b3⟩
          refine r81 h4 B (F3.trans F4) b1 b3 ?_
          rw [b2]
          exact hC
        have r47 : ∀ (h3 : mj_H), Fr inRt is73 h h3 → isOf h3 a b A → isLc (jI A.length) h3 [] → Run 47 [some (.ref 73), some (.long (jL d)), none, some (.ref 70), some (.int (jI (prodF pre))), some (.int (jI pre.length)), some (.int (jI (p.1 ^ p.2 : Nat)))] [] h3 (0, 0) := by
          intro h3 F3 ho3 hl3
          have L3 := L.F F3 (fun _ z => by omega)
          have iQ : (jI ((p.1 ^ p.2 : Nat) : Int)).toInt64 = jL ((p.1 ^ p.2 : Nat) : Int) := jI_L (by omega) (by omega)
          have c29 := ct_29 G (x := d) (y := ((p.1 ^ p.2 : Nat) : Int)) (by omega) (by omega) (by omega) (by omega) h3
          rw [← iQ] at c29
          have d0 : 0 ≤ d % ((p.1 ^ p.2 : Nat) : Int) := Int.emod_nonneg _ (by omega)
          have d1 : d % ((p.1 ^ p.2 : Nat) : Int) < ((p.1 ^ p.2 : Nat) : Int) := Int.emod_lt_of_pos _ (by omega)
          obtain ⟨d', hd'⟩ : ∃ d' : Nat, (d' : Int) = d % ((p.1 ^ p.2 : Nat) : Int) := ⟨_, Int.toNat_of_nonneg d0⟩
          have hdd : ((p.1 ^ p.2 : Nat) : Int) ∣ (d' : Int) - d := by
            have := Int.emod_add_mul_ediv d ((p.1 ^ p.2 : Nat) : Int)
            rw [hd']
            exact ⟨-(d / ((p.1 ^ p.2 : Nat) : Int)), by rw [Int.mul_neg]; omega⟩
          rw [← hd'] at d1 c29
          have e71 : hI h3 71 (jI (pre.length : Int)).toNatClampNeg = jI p.1 := by
            rw [nat (by omega)]
            exact (F3.I (by omega) _).trans (g3 _ _ hfp).1
          have e72 : hI h3 72 (jI (pre.length : Int)).toNatClampNeg = jI p.2 := by
            rw [nat (by omega)]
            exact (F3.I (by omega) _).trans (g3 _ _ hfp).2
          have c147 := ct_147 G L3 ho3.1 hl3 (d := d') (p := p.1) (e := p.2) pp pe (by omega) (by omega)
          rw [← e71, ← e72, ← jL_I] at c147
          refine hR 60 26 _ _ _ _ _ _ rfl ?_
          refine jcall c29 ?_
          refine ⟨L3.K 70 rfl, _, L3.R 70 2 _ rfl, Or.inl (L3.K 71 rfl), ?_, L3.K 70 rfl, _, L3.R 70 3 _ rfl, Or.inl (L3.K 72 rfl), ?_, L3.K 73 rfl, jcallP c147 ?_⟩
          · rw [show hN h3 71 = 8 from L3.N 70 rfl]
            exact jI_in (by omega) (by omega) (by omega)
          · rw [show hN h3 72 = 8 from L3.N 71 rfl]
            exact jI_in (by omega) (by omega) (by omega)
          · rintro o h4 ⟨rfl, F4, ls, l1, l2, l3⟩
            refine r73 h4 ls (F3.trans (F4.to is73 (fun x hx => ?_))) ⟨ho3.1.fr F4, l1.2.2.2, ho3.2.2.1, fun i x hx => ?_⟩ l1 l2 ?_
            · simp only [List.mem_cons, List.not_mem_nil, or_false] at hx
              show x = 73 ∨ x = 74 ∨ x = 75 ∨ x = 76
              omega
            · have hx2 := ho3.2.2.2 i x hx
              refine (congrFun (F4.2 a ?_) _).trans hx2
              rcases ho3.1.2.2.2 with ⟨rfl, _⟩ | ⟨rfl, _⟩ <;> simp
            · exact l3.congr (fun x _ => md_sub hdd)
        have r42 : Run 42 [some (.ref 73), some (.long (jL d)), none, some (.ref 70), some (.int (jI (prodF pre))), some (.int (jI pre.length)), some (.int (jI (p.1 ^ p.2 : Nat)))] [] h' (0, 0) := by
          refine hR 60 23 _ _ _ _ _ _ rfl ?_
          refine ⟨L'.K 73 rfl, ?_⟩
          have F1 : FrI [73] h' (sI h' 73 3 (jI 0)) := (FrI.refl _ _).sI (by simp) _ _
          refine r47 _ (F.sI (by omega) _ _) ⟨ho.1.fr F1, (sI_k _ _ (by decide) _).trans ho.2.1, ho.2.2.1, fun i x hx => ?_⟩ ⟨sI_at _ _ _ _, by decide, (fun i x hx => by cases hx), (sI_k _ _ (by decide) _).trans ho.2.1⟩
          have hx2 := ho.2.2.2 i x hx
          refine (congrFun (F1.2 a ?_) _).trans hx2
          rcases ho.1.2.2.2 with ⟨rfl, _⟩ | ⟨rfl, _⟩ <;> simp
        exact r42
  refine hR 60 0 _ _ _ _ _ _ rfl ?_
  have F1 : FrI [73] h (sI h 73 0 (jI 1)) := (FrI.refl _ _).sI (by simp) _ _
  have L1 := L.fr F1.1
  have hKa : hK (sI h 73 0 (jI 1)) a = 1 ∧ hN (sI h 73 0 (jI 1)) a = 4096 ∧ inRt a ∧ a ≠ 73 := by
    rcases hr.2.2.2 with ⟨rfl, _⟩ | ⟨rfl, _⟩
    · exact ⟨L1.K 74 rfl, L1.N 73 rfl, by omega, by omega⟩
    · exact ⟨L1.K 75 rfl, L1.N 74 rfl, by omega, by omega⟩
  refine ⟨L.K 73 rfl, L1.K 73 rfl, _, (hr.fr F1).1, hKa.1, ?_, ?_⟩
  · rw [hKa.2.1]
    exact jI_in (by omega) (by omega) (by omega)
  · refine r18 fs [] _ a b 0 [0] _ _ _ rfl ?_ ⟨?_, ?_, by decide, ?_⟩ ?_ (fun p hp => ?_) ⟨fun _ => by decide, fun _ => by decide, by decide⟩ rfl rfl
    · exact ((Fr.refl inRt is73 h).sI (by omega) _ _).sI hKa.2.2.1 _ _
    · exact (hr.fr F1).fr ((FrI.refl [a] _).sI (by simp) _ _)
    · exact (congrFun (sI_a _ (fun z => hKa.2.2.2 z.symm) _ _) _).trans (sI_at _ _ _ _)
    · intro i x hx
      cases i with
      | zero =>
        have h9 : some 0 = some x := hx
        rw [← Option.some.inj h9]
        exact sI_at _ _ _ _
      | succ i => cases hx
    · refine ⟨List.nodup_cons.2 ⟨List.not_mem_nil, List.nodup_nil⟩, fun x => ?_⟩
      rw [List.mem_singleton]
      constructor
      · rintro rfl
        exact ⟨by decide, ⟨_, (Int.one_mul _).symm⟩⟩
      · rintro ⟨z, _⟩
        have z' : x < 1 := z
        omega
    · have := (hF2 p hp).1.1
      omega
