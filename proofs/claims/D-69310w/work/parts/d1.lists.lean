/-! the tables of reduced forms: members and order -/
def lt2 (p q : pI) : Prop := p.1 < q.1 ∨ (p.1 = q.1 ∧ p.2 < q.2)
theorem row_mem {d w x : Int} : ∀ (m : Nat) (y : Int) (p : pI), p ∈ rowL d w x m y ↔ p.1 = x ∧ y ≤ p.2 ∧ p.2 < y + m ∧ gdP d w x p.2 = true
  | 0, y, p => by
    show p ∈ ([] : List pI) ↔ _
    constructor
    · intro h
      cases h
    · rintro ⟨_, h1, h2, _⟩
      omega
  | m + 1, y, p => by
    show p ∈ (if gdP d w x y then [(x, y)] else []) ++ rowL d w x m (y + 1) ↔ _
    rw [List.mem_append, row_mem m (y + 1) p]
    constructor
    · rintro (h | ⟨h1, h2, h3, h4⟩)
      · by_cases c : gdP d w x y = true
        · rw [if_pos c, List.mem_singleton] at h
          subst h
          exact ⟨rfl, Int.le_refl _, by show y < y + ((m + 1 : Nat) : Int); omega, c⟩
        · rw [if_neg c] at h
          cases h
      · exact ⟨h1, by omega, by omega, h4⟩
    · rintro ⟨h1, h2, h3, h4⟩
      by_cases c : p.2 = y
      · left
        rw [c] at h4
        rw [if_pos h4, List.mem_singleton]
        exact Prod.ext h1 c
      · exact Or.inr ⟨h1, by omega, by omega, h4⟩
theorem row_asc {d w x : Int} : ∀ (m : Nat) (y : Int), (rowL d w x m y).Pairwise lt2
  | 0, _ => List.Pairwise.nil
  | m + 1, y => by
    show ((if gdP d w x y then [(x, y)] else []) ++ rowL d w x m (y + 1)).Pairwise lt2
    rw [List.pairwise_append]
    refine ⟨?_, row_asc m (y + 1), fun a ha b hb => ?_⟩
    · split
      · exact List.pairwise_singleton _ _
      · exact List.Pairwise.nil
    · obtain ⟨b1, b2, -⟩ := (row_mem m (y + 1) b).1 hb
      split at ha
      · rw [List.mem_singleton] at ha
        subst ha
        exact Or.inr ⟨b1.symm, by show y < b.2; omega⟩
      · cases ha
theorem col_mem {d w : Int} : ∀ (m : Nat) (x : Int) (p : pI), p ∈ colL d w m x ↔ x ≤ p.1 ∧ p.1 < x + m ∧ yLo d p.1 ≤ p.2 ∧ p.2 ≤ yHi d w p.1 ∧ gdP d w p.1 p.2 = true
  | 0, x, p => by
    show p ∈ ([] : List pI) ↔ _
    constructor
    · intro h
      cases h
    · rintro ⟨h1, h2, _⟩
      omega
  | m + 1, x, p => by
    show p ∈ rowL d w x (yHi d w x + 1 - yLo d x).toNat (yLo d x) ++ colL d w m (x + 1) ↔ _
    rw [List.mem_append, row_mem, col_mem m (x + 1) p]
    constructor
    · rintro (⟨h1, h2, h3, h4⟩ | ⟨h1, h2, h3⟩)
      · subst h1
        exact ⟨Int.le_refl _, by omega, h2, by omega, h4⟩
      · exact ⟨by omega, by omega, h3⟩
    · rintro ⟨h1, h2, h3, h4, h5⟩
      by_cases c : p.1 = x
      · subst c
        exact Or.inl ⟨rfl, h3, by omega, h5⟩
      · exact Or.inr ⟨by omega, by omega, h3, h4, h5⟩
theorem col_asc {d w : Int} : ∀ (m : Nat) (x : Int), (colL d w m x).Pairwise lt2
  | 0, _ => List.Pairwise.nil
  | m + 1, x => by
    show (rowL d w x (yHi d w x + 1 - yLo d x).toNat (yLo d x) ++ colL d w m (x + 1)).Pairwise lt2
    rw [List.pairwise_append]
    refine ⟨row_asc _ _, col_asc m (x + 1), fun a ha b hb => ?_⟩
    obtain ⟨a1, -⟩ := (row_mem _ _ a).1 ha
    obtain ⟨b1, -⟩ := (col_mem m (x + 1) b).1 hb
    exact Or.inl (by omega)
theorem mf_asc (d w e : Int) : (mfL d w e).Pairwise lt2 := by
  unfold mfL
  split
  · exact col_asc _ _
  · exact col_asc _ _
theorem gdP_iff {d w : Int} (p : pI) : gdP d w p.1 p.2 = true ↔ p.1 ≠ 0 ∧ (p.2 * p.2 - d).tmod (4 * p.1) = 0 ∧ rdF d w (fmP d p) = true ∧ Int.gcd (Int.gcd p.1 p.2) (fmP d p).2.2 = 1 := by
  obtain ⟨x, y⟩ := p
  unfold gdP
  simp only [Bool.and_eq_true, decide_eq_true_eq]
theorem fmP_d {d : Int} {p : pI} (h : (p.2 * p.2 - d).tmod (4 * p.1) = 0) : dF (fmP d p) = d := by
  have e : (p.2 * p.2 - d).tdiv (4 * p.1) * (4 * p.1) = p.2 * p.2 - d := Int.tdiv_mul_cancel (Int.dvd_of_tmod_eq_zero h)
  show p.2 * p.2 - 4 * p.1 * (p.2 * p.2 - d).tdiv (4 * p.1) = d
  rw [Int.mul_comm (4 * p.1), e]
  omega
theorem fmP_of {d : Int} {f : Fm} (hD : dF f = d) (h0 : f.1 ≠ 0) : fmP d (f.1, f.2.1) = f ∧ (f.2.1 * f.2.1 - d).tmod (4 * f.1) = 0 := by
  obtain ⟨a, b, c⟩ := f
  have e : b * b - d = 4 * a * c := by
    rw [← hD]
    show b * b - (b * b - 4 * a * c) = _
    omega
  have h0' : a ≠ 0 := h0
  constructor
  · show (a, b, (b * b - d).tdiv (4 * a)) = (a, b, c)
    rw [e, Int.mul_tdiv_cancel_left _ (by omega)]
  · show (b * b - d).tmod (4 * a) = 0
    rw [e]
    exact Int.mul_tmod_right _ _
theorem rdN_pos {d w : Int} {f : Fm} (hd : d < 0) (hD : dF f = d) (hr : rdF d w f = true) : RedN f := by
  obtain ⟨a, b, c⟩ := f
  unfold rdF rdB at hr
  rw [if_neg (by omega), decide_eq_true_eq] at hr
  simp only at hr
  have hD' : b * b - 4 * a * c = d := hD
  have hb := sqn b
  have ha : 0 < a := by
    rcases Int.lt_or_le 0 a with z | z
    · exact z
    · exfalso
      have hc : 0 ≤ c := by omega
      have h1 : (-a) * c ≥ 0 := Int.mul_nonneg (by omega) hc
      have h2 : 4 * a * c = -(4 * ((-a) * c)) := by grind
      omega
  refine ⟨ha, ?_, ?_, ?_⟩
  · show (b.natAbs : Int) ≤ a
    omega
  · show a ≤ c
    omega
  · show 0 ≤ b ∨ ((b.natAbs : Int) ≠ a ∧ a ≠ c)
    omega
theorem rdN_iff {d w : Int} {f : Fm} (hd : d < 0) (hD : dF f = d) : rdF d w f = true ↔ RedN f := by
  refine ⟨rdN_pos hd hD, fun h => ?_⟩
  obtain ⟨a, b, c⟩ := f
  obtain ⟨h1, h2, h3, h4⟩ := h
  simp only at h1 h2 h3 h4
  unfold rdF rdB
  rw [if_neg (by omega), decide_eq_true_eq]
  simp only
  omega
theorem gd_vld {d w : Int} {p : pI} (h : gdP d w p.1 p.2 = true) : Vld d (fmP d p) ∧ rdF d w (fmP d p) = true ∧ p.1 ≠ 0 := by
  obtain ⟨h1, h2, h3, h4⟩ := (gdP_iff p).1 h
  have hD := fmP_d h2
  exact ⟨⟨hD, (prim_iff _).2 h4, fun hd => (rdN_pos hd hD h3).1⟩, h3, h1⟩
theorem vld_gd {d w : Int} (hn : nsq d) {f : Fm} (hV : Vld d f) (hr : rdF d w f = true) : gdP d w f.1 f.2.1 = true ∧ fmP d (f.1, f.2.1) = f := by
  obtain ⟨e1, e2⟩ := fmP_of hV.1 (vld_1 hn hV)
  refine ⟨(gdP_iff (f.1, f.2.1)).2 ⟨vld_1 hn hV, e2, ?_, ?_⟩, e1⟩
  · rw [e1]
    exact hr
  · rw [e1]
    exact (prim_iff _).1 hV.2.1
/-- bounds above 0 -/
theorem gd_pos {d w : Int} (hd : 0 < d) {p : pI} (h : gdP d w p.1 p.2 = true) : 0 < p.2 ∧ p.2 ≤ w ∧ w < 2 * p.1.natAbs + p.2 ∧ 2 * (p.1.natAbs : Int) - p.2 ≤ w := by
  have h3 := ((gdP_iff p).1 h).2.2.1
  unfold rdF rdB at h3
  rw [if_pos hd, decide_eq_true_eq] at h3
  exact h3
/-- bounds below 0 -/
theorem gd_neg {d w : Int} (hd : d < 0) {p : pI} (h : gdP d w p.1 p.2 = true) : 0 < p.1 ∧ -p.1 < p.2 ∧ p.2 ≤ p.1 ∧ 4 * (p.1 * p.1) ≤ p.2 * p.2 - d ∧ 3 * (p.1 * p.1) ≤ -d := by
  obtain ⟨h1, h2, h3⟩ := gd_vld h
  obtain ⟨r1, r2, r3, r4⟩ := rdN_pos hd h1.1 h2
  have hD := h1.1
  obtain ⟨a, b⟩ := p
  obtain ⟨c, hc⟩ : ∃ c, (fmP d (a, b)).2.2 = c := ⟨_, rfl⟩
  have e1 : (fmP d (a, b)).1 = a := rfl
  have e2 : (fmP d (a, b)).2.1 = b := rfl
  unfold dF at hD
  rw [e1] at r1 r2 r3 r4 hD
  rw [e2] at r2 r4 hD
  rw [hc] at r3 r4 hD
  show 0 < a ∧ -a < b ∧ b ≤ a ∧ 4 * (a * a) ≤ b * b - d ∧ 3 * (a * a) ≤ -d
  have m1 : a * a ≤ a * c := Int.mul_le_mul_of_nonneg_left r3 (by omega)
  have m2 : 4 * a * c = 4 * (a * c) := by grind
  have m3 : b * b ≤ a * a := by
    rw [← abs_sq b]
    exact sq_le (by omega) r2
  refine ⟨r1, by omega, by omega, by omega, by omega⟩
theorem mf_mem {d w e : Int} (hw : wdP d w) (he : mlP d w e) (p : pI) : p ∈ mfL d w e ↔ gdP d w p.1 p.2 = true := by
  unfold mfL
  rcases he with ⟨hd, e0, e1, e2⟩ | ⟨hd, rfl⟩
  · rw [if_pos hd, col_mem]
    refine ⟨fun h => h.2.2.2.2, fun h => ?_⟩
    obtain ⟨g1, g2, g3, g4, g5⟩ := gd_neg hd h
    have hlo : yLo d p.1 = -p.1 := if_pos hd
    have hhi : yHi d w p.1 = p.1 := if_pos hd
    rw [hlo, hhi]
    have h3 : (-d).tdiv 3 = (-d) / 3 := Int.tdiv_eq_ediv_of_nonneg (by omega)
    rw [h3] at e2
    have h4 : p.1 < e + 1 := lt_of_sq (by omega) (by omega)
    exact ⟨by omega, by omega, by omega, by omega, h⟩
  · rw [if_neg (by omega), col_mem]
    refine ⟨fun h => h.2.2.2.2, fun h => ?_⟩
    obtain ⟨g1, g2, g3, g4⟩ := gd_pos hd h
    have hlo : yLo d p.1 = 1 := if_neg (by omega)
    have hhi : yHi d e p.1 = e := if_neg (by omega)
    rw [hlo, hhi]
    exact ⟨by omega, by omega, by omega, by omega, h⟩
/-- lists without repetition -/
theorem len_sub {α : Type} [DecidableEq α] : ∀ (l m : List α), l.Nodup → (∀ a, a ∈ l → a ∈ m) → l.length ≤ m.length
  | [], _, _, _ => Nat.zero_le _
  | a :: t, m, hl, h => by
    obtain ⟨h1, h2⟩ := List.nodup_cons.1 hl
    have ha : a ∈ m := h a (List.mem_cons_self ..)
    have := len_sub t (m.erase a) h2 (fun b hb => by
      have hne : b ≠ a := fun z => h1 (z ▸ hb)
      exact (List.mem_erase_of_ne hne).2 (h b (List.mem_cons_of_mem _ hb)))
    rw [List.length_erase_of_mem ha] at this
    have hp : 0 < m.length := List.length_pos_of_mem ha
    show t.length + 1 ≤ m.length
    omega
theorem full_sub {α : Type} [DecidableEq α] {l m : List α} (hl : l.Nodup) (h : ∀ a, a ∈ l → a ∈ m) (hlen : m.length ≤ l.length) {a : α} (ha : a ∈ m) : a ∈ l := by
  by_cases c : a ∈ l
  · exact c
  · exfalso
    have := len_sub l (m.erase a) hl (fun b hb => (List.mem_erase_of_ne (fun z : b = a => c (z ▸ hb))).2 (h b hb))
    rw [List.length_erase_of_mem ha] at this
    have hp : 0 < m.length := List.length_pos_of_mem ha
    omega
theorem sort_eq {α : Type} {R : α → α → Prop} (ir : ∀ a b, R a b → R b a → False) : ∀ (l m : List α), l.Pairwise R → m.Pairwise R → (∀ a, a ∈ l ↔ a ∈ m) → l = m
  | [], [], _, _, _ => rfl
  | [], b :: t, _, _, h => by cases (h b).2 (List.mem_cons_self ..)
  | a :: s, [], _, _, h => by cases (h a).1 (List.mem_cons_self ..)
  | a :: s, b :: t, hl, hm, h => by
    obtain ⟨l1, l2⟩ := List.pairwise_cons.1 hl
    obtain ⟨m1, m2⟩ := List.pairwise_cons.1 hm
    have e : a = b := by
      rcases List.mem_cons.1 ((h a).1 (List.mem_cons_self ..)) with z | z
      · exact z
      · rcases List.mem_cons.1 ((h b).2 (List.mem_cons_self ..)) with y | y
        · exact y.symm
        · exact (ir a b (l1 b y) (m1 a z)).elim
    subst e
    have na : ∀ x, x ∈ s → x ≠ a := fun x hx z => ir a a (by have := l1 x hx; rwa [z] at this) (by have := l1 x hx; rwa [z] at this)
    have nb : ∀ x, x ∈ t → x ≠ a := fun x hx z => ir a a (by have := m1 x hx; rwa [z] at this) (by have := m1 x hx; rwa [z] at this)
    rw [sort_eq ir s t l2 m2 (fun x => ⟨fun hx => (List.mem_cons.1 ((h x).1 (List.mem_cons_of_mem _ hx))).resolve_left (na x hx), fun hx => (List.mem_cons.1 ((h x).2 (List.mem_cons_of_mem _ hx))).resolve_left (nb x hx)⟩)]
theorem lt2_ir (a b : pI) (h : lt2 a b) (h' : lt2 b a) : False := by
  unfold lt2 at h h'
  omega
theorem lt2_nd {l : List pI} (h : l.Pairwise lt2) : l.Nodup := h.imp (fun {a b} hab z => by
  subst z
  exact lt2_ir _ _ hab hab)
theorem aL_get {l : List pI} {i : Nat} (h : i < l.length) : aL l i = l[i] := by
  unfold aL
  rw [List.getElem?_eq_getElem h]
  rfl
theorem aL_mem {l : List pI} {i : Nat} (h : i < l.length) : aL l i ∈ l := by
  rw [aL_get h]
  exact List.getElem_mem h
theorem mem_aL {l : List pI} {p : pI} (h : p ∈ l) : ∃ i, i < l.length ∧ aL l i = p := by
  obtain ⟨i, hi, e⟩ := List.mem_iff_getElem.1 h
  exact ⟨i, hi, (aL_get hi).trans e⟩
theorem aL_sst {l : List pI} (h : l.Pairwise lt2) : sst l.length (aL l) := by
  intro i j hij hj
  rw [aL_get (by omega), aL_get hj]
  exact List.pairwise_iff_getElem.1 h i j (by omega) hj hij
/-- a sorted table out of a list of the same members -/
theorem perm_sort {l m : List pI} (hl : l.Pairwise lt2) (hm : m.Nodup) (hlm : ∀ p, p ∈ l ↔ p ∈ m) : m.length = l.length ∧ ∀ B, PermN l.length (aL m) B → srt l.length B → ∀ i, i < l.length → B i = aL l i := by
  have h1 := len_sub l m (lt2_nd hl) (fun a h => (hlm a).1 h)
  have h2 := len_sub m l hm (fun a h => (hlm a).2 h)
  have e : m.length = l.length := by omega
  refine ⟨e, fun B hB hs i hi => ?_⟩
  obtain ⟨σ, s1, s2, s3⟩ := hB
  have inj : ∀ i j, i < l.length → j < l.length → B i = B j → i = j := by
    intro i j hi hj hij
    rw [s3 i hi, s3 j hj] at hij
    have a1 := s1 i hi
    have a2 := s1 j hj
    rw [aL_get (by omega), aL_get (by omega)] at hij
    exact s2 i j hi hj ((List.getElem_inj hm).1 hij)
  have eL : (List.range l.length).map B = l := by
    have pw : ((List.range l.length).map B).Pairwise lt2 := by
      rw [List.pairwise_map]
      refine List.Pairwise.imp_of_mem ?_ (List.pairwise_lt_range (n := l.length))
      intro a b ha hb hab
      have hb' := List.mem_range.1 hb
      have z := hs a b hab hb'
      have ne : B a ≠ B b := fun q => by
        have := inj a b (by omega) hb' q
        omega
      rcases z with z | ⟨z1, z2⟩
      · exact Or.inl z
      · refine Or.inr ⟨z1, ?_⟩
        rcases Int.lt_or_eq_of_le z2 with y | y
        · exact y
        · exact (ne (Prod.ext z1 y)).elim
    refine sort_eq lt2_ir _ _ pw hl (fun p => ?_)
    have sub : ∀ p, p ∈ (List.range l.length).map B → p ∈ m := by
      intro p hp
      obtain ⟨i, hi, rfl⟩ := List.mem_map.1 hp
      have hi' := List.mem_range.1 hi
      rw [s3 i hi']
      have := s1 i hi'
      exact aL_mem (by omega)
    rw [hlm p]
    refine ⟨sub p, fun hp => full_sub (lt2_nd pw) sub ?_ hp⟩
    rw [List.length_map, List.length_range]
    omega
  have : ((List.range l.length).map B)[i]? = some (B i) := by
    rw [List.getElem?_map, List.getElem?_range hi]
    rfl
  unfold aL
  rw [eL] at this
  rw [this]
  rfl
