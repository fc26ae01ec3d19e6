/-! generators: the greedy choice makes a direct sum of at most eight -/
section
variable {d w : Int} {n : Nat} {A : Nat → pI} {nxt : Nat → Nat} {cls : Nat → Int} {cnt : Nat} {nm : Nat → Nat}
theorem inn_list (T : isTF d w n A nxt cls cnt nm) (B : List (Fin cnt)) (e : Nat) (p : Fin cnt) (st : gS cnt) : ∀ i, i ≤ B.length → (innS T B e p i st).1 = st.1 ++ (B.take i).map (fun m => mulC T m p)
  | 0, _ => by
    rw [List.take_zero, List.map_nil, List.append_nil]
    rfl
  | i + 1, hi => by
    have hb : B[i]? = some B[i] := List.getElem?_eq_getElem (by omega)
    rw [innS_one T e p st hb]
    show (innS T B e p i st).1 ++ [mulC T B[i] p] = _
    rw [inn_list T B e p st i (by omega), List.append_assoc, List.take_succ, hb, List.map_append]
    rfl
/-- all products of members of B with powers of g up to e -/
noncomputable def outL (T : isTF d w n A nxt cls cnt nm) (B : List (Fin cnt)) (g : Fin cnt) : Nat → List (Fin cnt)
  | 0 => B
  | e + 1 => outL T B g e ++ B.map (fun m => mulC T m (pw (mulC T) (oneC T) g (e + 1)))
theorem out_list (T : isTF d w n A nxt cls cnt nm) (g : Fin cnt) (st : gS cnt) : ∀ e, (outS T st.1 g e st).1 = outL T st.1 g e
  | 0 => rfl
  | e + 1 => by
    rw [outS_one, inn_list T st.1 (e + 1) _ _ st.1.length (Nat.le_refl _), out_list T g st e, List.take_length]
    rfl
theorem outL_mem (T : isTF d w n A nxt cls cnt nm) (B : List (Fin cnt)) (g x : Fin cnt) : ∀ e, x ∈ outL T B g e ↔ ∃ m j, m ∈ B ∧ j ≤ e ∧ x = mulC T m (pw (mulC T) (oneC T) g j)
  | 0 => by
    show x ∈ B ↔ _
    constructor
    · intro h
      exact ⟨x, 0, h, Nat.le_refl _, (gp_e (gpC T) x).symm⟩
    · rintro ⟨m, j, h1, h2, rfl⟩
      have : j = 0 := by omega
      subst this
      rw [show pw (mulC T) (oneC T) g 0 = oneC T from rfl, gp_e (gpC T)]
      exact h1
  | e + 1 => by
    show x ∈ outL T B g e ++ B.map (fun m => mulC T m (pw (mulC T) (oneC T) g (e + 1))) ↔ _
    rw [List.mem_append, outL_mem T B g x e, List.mem_map]
    constructor
    · rintro (⟨m, j, h1, h2, h3⟩ | ⟨m, h1, h2⟩)
      · exact ⟨m, j, h1, by omega, h3⟩
      · exact ⟨m, e + 1, h1, Nat.le_refl _, h2.symm⟩
    · rintro ⟨m, j, h1, h2, h3⟩
      by_cases c : j = e + 1
      · subst c
        exact Or.inr ⟨m, h1, h3.symm⟩
      · exact Or.inl ⟨m, j, h1, by omega, h3⟩
theorem outL_len (T : isTF d w n A nxt cls cnt nm) (B : List (Fin cnt)) (g : Fin cnt) : ∀ e, (outL T B g e).length = B.length * (e + 1)
  | 0 => (Nat.mul_one _).symm
  | e + 1 => by
    show (outL T B g e ++ B.map (fun m => mulC T m (pw (mulC T) (oneC T) g (e + 1)))).length = _
    rw [List.length_append, List.length_map, outL_len T B g e, Nat.mul_succ B.length (e + 1)]
theorem gp_cancR {α : Type} {mul : α → α → α} {e : α} (G : isGp mul e) {x y z : α} (h : mul x z = mul y z) : x = y := by
  rw [G.2.1 x, G.2.1 y] at h
  exact gp_cancel G h
theorem outL_nd (T : isTF d w n A nxt cls cnt nm) {H : Fin cnt → Prop} (S : isSub (mulC T) (oneC T) H) {B : List (Fin cnt)} (hB : B.Nodup) (hBH : ∀ x, x ∈ B → H x) {g : Fin cnt} : ∀ e, (∀ j, 0 < j → j ≤ e → ¬ H (pw (mulC T) (oneC T) g j)) → (outL T B g e).Nodup
  | 0, _ => hB
  | e + 1, h => by
    have G := gpC T
    show (outL T B g e ++ B.map (fun m => mulC T m (pw (mulC T) (oneC T) g (e + 1)))).Pairwise (· ≠ ·)
    rw [List.pairwise_append, List.pairwise_map]
    refine ⟨outL_nd T S hB hBH e (fun j j1 j2 => h j j1 (by omega)), hB.imp (fun {a b} hne z => hne (gp_cancR G z)), fun x hx y hy z => ?_⟩
    obtain ⟨m, j, m1, m2, rfl⟩ := (outL_mem T B g x e).1 hx
    obtain ⟨m', m1', rfl⟩ := List.mem_map.1 hy
    rw [show e + 1 = (e + 1 - j) + j by omega, pw_add G, ← G.1] at z
    have z2 := gp_cancR G z
    refine h (e + 1 - j) (by omega) (by omega) (sub_left G (finC cnt) S (hBH m' m1') ?_)
    rw [← z2]
    exact hBH m m1
theorem nd_len {L : List (Fin cnt)} (h : L.Nodup) : L.length ≤ cnt := by
  have := len_sub (L.map Fin.val) (List.range cnt) (by
    rw [List.Nodup, List.pairwise_map]
    exact h.imp (fun {a b} hne z => hne (Fin.ext z))) (fun x hx => by
    obtain ⟨y, -, rfl⟩ := List.mem_map.1 hx
    exact List.mem_range.2 y.isLt)
  rwa [List.length_map, List.length_range] at this
theorem nd_full {L : List (Fin cnt)} (h : L.Nodup) (hl : cnt ≤ L.length) (y : Fin cnt) : y ∈ L := by
  have nd : (L.map Fin.val).Nodup := by
    rw [List.Nodup, List.pairwise_map]
    exact h.imp (fun {a b} hne z => hne (Fin.ext z))
  have := full_sub nd (m := List.range cnt) (fun x hx => by
    obtain ⟨y, -, rfl⟩ := List.mem_map.1 hx
    exact List.mem_range.2 y.isLt) (by rw [List.length_map, List.length_range]; exact hl) (List.mem_range.2 y.isLt)
  obtain ⟨z, z1, z2⟩ := List.mem_map.1 this
  rw [← Fin.ext z2]
  exact z1
theorem nd_out {L : List (Fin cnt)} (hl : L.length < cnt) : ∃ y, ¬ y ∈ L := by
  by_cases c : ∃ y, ¬ y ∈ L
  · exact c
  · exfalso
    have := len_sub (List.range cnt) (L.map Fin.val) List.nodup_range (fun x hx => by
      refine List.mem_map.2 ⟨⟨x, List.mem_range.1 hx⟩, ?_, rfl⟩
      by_cases z : (⟨x, List.mem_range.1 hx⟩ : Fin cnt) ∈ L
      · exact z
      · exact (c ⟨_, z⟩).elim)
    rw [List.length_map, List.length_range] at this
    omega
theorem bst_none (T : isTF d w n A nxt cls cnt nm) (o : Fin cnt → Nat) (mem : List (Fin cnt)) : ∀ k, bstS T o mem k = none → ∀ x : Fin cnt, x.val < k → ¬ aptP T o mem x
  | 0, _, x, h => by omega
  | k + 1, hb, x, hx => by
    by_cases hk : k < cnt
    · by_cases c : (∀ b, bstS T o mem k = some b → o b < o ⟨k, hk⟩) ∧ aptP T o mem ⟨k, hk⟩
      · rw [bstS_yes T o mem hk c] at hb
        cases hb
      · rw [bstS_no T o mem hk c] at hb
        by_cases e : x.val = k
        · intro ha
          refine c ⟨fun b z => ?_, ?_⟩
          · rw [hb] at z
            cases z
          · rw [show (⟨k, hk⟩ : Fin cnt) = x from Fin.ext e.symm]
            exact ha
        · exact bst_none T o mem k hb x (by omega)
    · have := x.isLt
      have e : bstS T o mem (k + 1) = bstS T o mem k := dif_neg hk
      rw [e] at hb
      exact bst_none T o mem k hb x (by omega)
theorem bst_some (T : isTF d w n A nxt cls cnt nm) (o : Fin cnt → Nat) (mem : List (Fin cnt)) : ∀ k b, bstS T o mem k = some b → aptP T o mem b ∧ ∀ x : Fin cnt, x.val < k → aptP T o mem x → o x ≤ o b
  | 0, b, hb => by cases hb
  | k + 1, b, hb => by
    by_cases hk : k < cnt
    · by_cases c : (∀ b, bstS T o mem k = some b → o b < o ⟨k, hk⟩) ∧ aptP T o mem ⟨k, hk⟩
      · rw [bstS_yes T o mem hk c] at hb
        cases hb
        refine ⟨c.2, fun x hx ha => ?_⟩
        by_cases e : x.val = k
        · rw [show x = (⟨k, hk⟩ : Fin cnt) from Fin.ext e]
          exact Nat.le_refl _
        · cases hbk : bstS T o mem k with
          | none => exact (bst_none T o mem k hbk x (by omega) ha).elim
          | some b' =>
            have h1 := (bst_some T o mem k b' hbk).2 x (by omega) ha
            have h2 := c.1 b' hbk
            omega
      · rw [bstS_no T o mem hk c] at hb
        obtain ⟨h1, h2⟩ := bst_some T o mem k b hb
        refine ⟨h1, fun x hx ha => ?_⟩
        by_cases e : x.val = k
        · rcases Nat.lt_or_ge (o b) (o x) with z | z
          · exfalso
            have ex : (⟨k, hk⟩ : Fin cnt) = x := Fin.ext e.symm
            refine c ⟨fun b' hb' => ?_, ?_⟩
            · rw [hb] at hb'
              cases hb'
              rw [ex]
              exact z
            · rw [ex]
              exact ha
          · exact z
        · exact h2 x (by omega) ha
    · have e : bstS T o mem (k + 1) = bstS T o mem k := dif_neg hk
      rw [e] at hb
      obtain ⟨h1, h2⟩ := bst_some T o mem k b hb
      exact ⟨h1, fun x hx ha => h2 x (by have := x.isLt; omega) ha⟩
/-- more elements whose p-th power is one -/
theorem tor_up (T : isTF d w n A nxt cls cnt nm) {H : Fin cnt → Prop} (S : isSub (mulC T) (oneC T) H) {p m : Nat} (hp : Pr p) (hpm : p ∣ m) {g : Fin cnt} (hg : Apt (mulC T) (oneC T) H g m) {L : List (Fin cnt)} (hL : L.Nodup) (hLH : ∀ x, x ∈ L → H x ∧ pw (mulC T) (oneC T) x p = oneC T) : ∃ L' : List (Fin cnt), L'.Nodup ∧ L'.length = L.length * p ∧ ∀ x, x ∈ L' → joinH (mulC T) (oneC T) H g x ∧ pw (mulC T) (oneC T) x p = oneC T := by
  have G := gpC T
  obtain ⟨q, hq⟩ := hpm
  have p2 := hp.1
  have q0 : 0 < q := by
    rcases Nat.eq_zero_or_pos q with z | z
    · subst z
      have := hg.1.1
      omega
    · exact z
  refine ⟨outL T L (pw (mulC T) (oneC T) g q) (p - 1), outL_nd T S hL (fun x hx => (hLH x hx).1) (p - 1) (fun j j1 j2 hj => ?_), ?_, fun x hx => ?_⟩
  · rw [pw_pw G] at hj
    have := hg.2 _ hj
    rw [hq, Nat.mul_comm p q] at this
    have := Nat.le_of_dvd j1 (Nat.dvd_of_mul_dvd_mul_left q0 this)
    omega
  · rw [outL_len, show p - 1 + 1 = p by omega]
  · obtain ⟨l, j, l1, l2, rfl⟩ := (outL_mem _ _ _ _ _).1 hx
    obtain ⟨a1, a2⟩ := hLH l l1
    rw [pw_pw G]
    refine ⟨⟨l, q * j, a1, rfl⟩, ?_⟩
    rw [pw_mul G, a2, pw_pw G, show q * j * p = m * j by rw [hq]; grind, ← pw_pw G, hg.1.2.1, pw_e G, G.2.2.1]
/-- what is so of the generators found so far -/
def gnI (T : isTF d w n A nxt cls cnt nm) (st : gS cnt) : Prop := st.1.Nodup ∧ isSub (mulC T) (oneC T) (fun x => x ∈ st.1) ∧ Pure (mulC T) (oneC T) (fun x => x ∈ st.1) ∧ ∀ p y m, Pr p → p ∣ m → Apt (mulC T) (oneC T) (fun x => x ∈ st.1) y m → ∃ L : List (Fin cnt), L.Nodup ∧ L.length = p ^ st.2.2.length ∧ ∀ x, x ∈ L → x ∈ st.1 ∧ pw (mulC T) (oneC T) x p = oneC T
theorem gnI_0 (T : isTF d w n A nxt cls cnt nm) : gnI T (st0 T) := by
  have G := gpC T
  have e : (fun x => x ∈ (st0 T).1) = (fun x => x = oneC T) := by
    funext x
    exact propext List.mem_singleton
  refine ⟨List.pairwise_singleton _ _, ?_, ?_, fun p y m _ _ _ => ⟨[oneC T], List.pairwise_singleton _ _, (Nat.pow_zero p).symm, fun x hx => ?_⟩⟩
  · rw [e]
    refine ⟨rfl, fun x y hx hy => ?_⟩
    rw [hx, hy]
    exact G.2.2.1 _
  · rw [e]
    exact pure_one G
  · refine ⟨hx, ?_⟩
    rw [List.mem_singleton.1 hx]
    exact pw_e G p
theorem aptP_iff (T : isTF d w n A nxt cls cnt nm) {o : Fin cnt → Nat} (ho : ∀ x, isOrd (mulC T) (oneC T) x (o x)) {mem : List (Fin cnt)} (S : isSub (mulC T) (oneC T) (fun x => x ∈ mem)) (x : Fin cnt) : aptP T o mem x ↔ 1 < o x ∧ Apt (mulC T) (oneC T) (fun x => x ∈ mem) x (o x) := by
  unfold aptP
  rw [apt_iff (gpC T) (finC cnt) S (ho x)]
theorem aptT_iff (T : isTF d w n A nxt cls cnt nm) {o : Fin cnt → Nat} (ho : ∀ x, isOrd (mulC T) (oneC T) x (o x)) {mem : List (Fin cnt)} (S : isSub (mulC T) (oneC T) (fun x => x ∈ mem)) (x : Fin cnt) : (¬ x ∈ mem ∧ aptT T o mem x) ↔ aptP T o mem x := by
  have G := gpC T
  rw [aptP_iff T ho S]
  constructor
  · rintro ⟨h1, h2, h3⟩
    have o0 := (ho x).1
    refine ⟨?_, ho x, fun j hj => ?_⟩
    · rcases Nat.lt_or_ge 1 (o x) with z | z
      · exact z
      · exfalso
        have e : o x = 1 := by omega
        have := (ho x).2.1
        rw [e, pw_one G] at this
        exact h2 this
    · rw [← ord_mod G (ho x) j] at hj
      rcases Nat.eq_zero_or_pos (j % o x) with z | z
      · exact Nat.dvd_of_mod_eq_zero z
      · exact (h3 _ z (Nat.mod_lt _ o0) hj).elim
  · rintro ⟨h1, h2⟩
    refine ⟨fun z => ?_, fun z => ?_, fun i i1 i2 z => ?_⟩
    · have := h2.2 1 (by rw [pw_one G]; exact z)
      have := Nat.le_of_dvd (by decide) this
      omega
    · have := (ho x).2.2 1 (by decide) h1
      rw [pw_one G] at this
      exact this z
    · have := Nat.le_of_dvd i1 (h2.2 i z)
      omega
theorem jn_list (T : isTF d w n A nxt cls cnt nm) (o : Fin cnt → Nat) (st : gS cnt) (g : Fin cnt) : (jnS T o st g).1 = outL T st.1 g (o g - 1) ∧ (jnS T o st g).2.2 = st.2.2 ++ [g] := by
  refine ⟨out_list T g st _, ?_⟩
  show (outS T st.1 g (o g - 1) st).2.2 ++ [g] = _
  rw [(outS_pre T st.1 g st (o g - 1)).1]
theorem gn_step (T : isTF d w n A nxt cls cnt nm) {o : Fin cnt → Nat} (ho : ∀ x, isOrd (mulC T) (oneC T) x (o x)) {ps : List Nat} (hps : isOP d.natAbs ps) (hpl : ps.length ≤ 6) {st : gS cnt} (hI' : gnI T st) (hlt : st.1.length < cnt) : ∃ g, bstS T o st.1 cnt = some g ∧ 1 < o g ∧ st.2.2.length < 8 ∧ st.1.length * o g ≤ 4096 ∧ gnI T (jnS T o st g) ∧ st.1.length < (jnS T o st g).1.length := by
  have G := gpC T
  have F := finC cnt
  have hc4 : cnt ≤ 4096 := T.1.2.2.2.2.2.1
  obtain ⟨nd, S, P, tor⟩ := hI'
  obtain ⟨x, hx⟩ := nd_out hlt
  obtain ⟨y, m, m1, hy⟩ := apt_ex G F S P hx
  have em : m = o y := ord_unique hy.1 (ho y)
  subst em
  have ay : aptP T o st.1 y := (aptP_iff T ho S y).2 ⟨m1, hy⟩
  cases hb : bstS T o st.1 cnt with
  | none => exact (bst_none T o st.1 cnt hb y y.isLt ay).elim
  | some g =>
    obtain ⟨ag, gmax⟩ := bst_some T o st.1 cnt g hb
    obtain ⟨g1, gA⟩ := (aptP_iff T ho S g).1 ag
    have hmax : ∀ z r, Apt (mulC T) (oneC T) (fun x => x ∈ st.1) z r → r ≤ o g := by
      intro z r hz
      have er : r = o z := ord_unique hz.1 (ho z)
      subst er
      rcases Nat.lt_or_ge 1 (o z) with q | q
      · exact gmax z z.isLt ((aptP_iff T ho S z).2 ⟨q, hz⟩)
      · omega
    have hexp : ∀ z r, oH (mulC T) (oneC T) (fun x => x ∈ st.1) z r → r ∣ o g := fun z r hz => apt_exp G F S P gA hmax hz
    obtain ⟨j1, j2⟩ := jn_list T o st g
    have nog : ∀ j, 0 < j → j ≤ o g - 1 → ¬ pw (mulC T) (oneC T) g j ∈ st.1 := by
      intro j h1 h2 h3
      have := Nat.le_of_dvd h1 (gA.2 j h3)
      omega
    have nd' : (jnS T o st g).1.Nodup := by
      rw [j1]
      exact outL_nd T S nd (fun x hx => hx) (o g - 1) nog
    have len' : (jnS T o st g).1.length = st.1.length * o g := by
      rw [j1, outL_len, show o g - 1 + 1 = o g by omega]
    have mem' : (fun x => x ∈ (jnS T o st g).1) = joinH (mulC T) (oneC T) (fun x => x ∈ st.1) g := by
      funext x
      refine propext ?_
      rw [j1, outL_mem]
      constructor
      · rintro ⟨m, j, h1, h2, h3⟩
        exact ⟨m, j, h1, h3⟩
      · rintro ⟨m, j, h1, h3⟩
        have := Nat.mod_lt j (ho g).1
        exact ⟨m, j % o g, h1, by omega, by rw [ord_mod G (ho g)]; exact h3⟩
    have l0 : 0 < st.1.length := List.length_pos_of_mem (show oneC T ∈ st.1 from S.1)
    have lc := nd_len nd'
    have tor' : ∀ p, Pr p → p ∣ o g → ∃ L : List (Fin cnt), L.Nodup ∧ L.length = p ^ (st.2.2.length + 1) ∧ ∀ x, x ∈ L → joinH (mulC T) (oneC T) (fun x => x ∈ st.1) g x ∧ pw (mulC T) (oneC T) x p = oneC T := by
      intro p hp hpg
      obtain ⟨L, L1, L2, L3⟩ := tor p g (o g) hp hpg gA
      obtain ⟨L', a1, a2, a3⟩ := tor_up T S hp hpg gA L1 L3
      exact ⟨L', a1, by rw [a2, L2, Nat.pow_succ], a3⟩
    refine ⟨g, rfl, g1, ?_, by omega, ⟨nd', ?_, ?_, ?_⟩, ?_⟩
    · rcases Nat.lt_or_ge st.2.2.length 8 with z | z
      · exact z
      · exfalso
        obtain ⟨p, p1, p2⟩ := ex_pr (o g) (o g) (Nat.le_refl _) g1
        obtain ⟨L, L1, L2, L3⟩ := tor' p p1 p2
        have hp2 := p1.1
        have lL := nd_len L1
        rcases Nat.lt_or_ge p 3 with q | q
        · have : p = 2 := by omega
          subst this
          have h1 := amb_cnt T hps hpl L1 (fun x hx => (L3 x hx).2)
          have h2 : 2 ^ 9 ≤ 2 ^ (st.2.2.length + 1) := Nat.pow_le_pow_right (by decide) (by omega)
          omega
        · have h1 : 3 ^ (st.2.2.length + 1) ≤ p ^ (st.2.2.length + 1) := Nat.pow_le_pow_left q _
          have h2 : 3 ^ 9 ≤ 3 ^ (st.2.2.length + 1) := Nat.pow_le_pow_right (by decide) (by omega)
          omega
    · rw [mem']
      exact join_sub G S g
    · rw [mem']
      exact join_pure G F S P gA hexp
    · intro p z m hp hpm hz
      rw [mem'] at hz
      obtain ⟨r, hr⟩ := oH_ex G F S z
      have d1 : m ∣ r := hz.2 r ⟨_, 0, hr.2.1, (gp_e G _).symm⟩
      obtain ⟨L, L1, L2, L3⟩ := tor' p hp (Nat.dvd_trans hpm (Nat.dvd_trans d1 (hexp z r hr)))
      refine ⟨L, L1, ?_, fun x hx => ⟨?_, (L3 x hx).2⟩⟩
      · rw [j2, List.length_append, L2]
        rfl
      · have := (L3 x hx).1
        rw [← mem'] at this
        exact this
    · rw [len']
      have : st.1.length * 2 ≤ st.1.length * o g := Nat.mul_le_mul_left _ g1
      omega
theorem gn_all (T : isTF d w n A nxt cls cnt nm) {o : Fin cnt → Nat} (ho : ∀ x, isOrd (mulC T) (oneC T) x (o x)) {ps : List Nat} (hps : isOP d.natAbs ps) (hpl : ps.length ≤ 6) : ∀ (f : Nat) (st : gS cnt), gnI T st → cnt ≤ st.1.length + f → gnOK T o f st ∧ gnOT T o f st ∧ ∀ y, y ∈ (gnS T o f st).1
  | 0, st, hI', hf => by
    have := nd_len hI'.1
    have e : st.1.length = cnt := by omega
    exact ⟨e, e, fun y => nd_full hI'.1 (by omega) y⟩
  | f + 1, st, hI', hf => by
    have := nd_len hI'.1
    by_cases e : st.1.length = cnt
    · refine ⟨Or.inl e, Or.inl e, fun y => ?_⟩
      rw [gnS_full T o e]
      exact nd_full hI'.1 (by omega) y
    · obtain ⟨g, h1, h2, h3, h4, h5, h6⟩ := gn_step T ho hps hpl hI' (by omega)
      obtain ⟨k1, k2, k3⟩ := gn_all T ho hps hpl f (jnS T o st g) h5 (by omega)
      refine ⟨Or.inr ⟨by omega, g, h1, h3, h4, k1⟩, Or.inr ⟨by omega, fun x => aptT_iff T ho hI'.2.1 x, g, h1, h2, h3, h4, k2⟩, fun y => ?_⟩
      have eg : gnS T o (f + 1) st = gnS T o f (jnS T o st g) := by
        show (if st.1.length < cnt then (match bstS T o st.1 cnt with | some g => gnS T o f (jnS T o st g) | none => st) else st) = _
        rw [if_pos (by omega), h1]
      rw [eg]
      exact k3 y
/-- orders and generators of the classes -/
theorem gens_ex (T : isTF d w n A nxt cls cnt nm) {ps : List Nat} (hps : isOP d.natAbs ps) (hpl : ps.length ≤ 6) : ∃ (ord : Fin cnt → Nat) (fu : Nat), (∀ x, isOrd (mulC T) (oneC T) x (ord x) ∧ ord x ≤ 4096) ∧ gnOK T ord fu (st0 T) ∧ gnOT T ord fu (st0 T) ∧ ∀ y, y ∈ (gnS T ord fu (st0 T)).1 := by
  have hc4 : cnt ≤ 4096 := T.1.2.2.2.2.2.1
  obtain ⟨ord, hord⟩ := Classical.axiomOfChoice (fun x => ord_ex (gpC T) (finC cnt) x)
  obtain ⟨k1, k2, k3⟩ := gn_all T (o := ord) (fun x => (hord x).2) hps hpl cnt (st0 T) (gnI_0 T) (by omega)
  exact ⟨ord, cnt, fun x => ⟨(hord x).2, Nat.le_trans (hord x).1 hc4⟩, k1, k2, k3⟩
end
