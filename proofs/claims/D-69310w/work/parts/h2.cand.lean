/-! below 0: all solutions are looked at -/
theorem wd_uniq {v a b : Int} (ha : isWd v a) (hb : isWd v b) : a = b := by
  obtain ⟨a0, a1, a2⟩ := ha
  obtain ⟨b0, b1, b2⟩ := hb
  have h1 : a < b + 1 := lt_of_sq (by omega) (by omega)
  have h2 : b < a + 1 := lt_of_sq (by omega) (by omega)
  omega
theorem rtZ_sq {s : Int} (hs : 0 ≤ s) : rtZ (s * s) = s := by
  have hw : isWd (s * s) s := ⟨hs, Int.le_refl _, by
    have : (s + 1) * (s + 1) = s * s + 2 * s + 1 := by grind
    omega⟩
  have hex : ∃ r, isWd (s * s) r := ⟨s, hw⟩
  have e : rtZ (s * s) = Classical.choose hex := by
    unfold rtZ
    rw [dif_pos hex]
  rw [e]
  exact wd_uniq (Classical.choose_spec hex) hw
theorem rtZ_nn (v : Int) : 0 ≤ rtZ v := by
  unfold rtZ
  by_cases h : ∃ r, isWd v r
  · rw [dif_pos h]
    exact (Classical.choose_spec h).1
  · rw [dif_neg h]
    exact Int.le_refl _
theorem cand_mem {d : Int} {f : Fm} (hD : dF f = d) (ha : 0 < f.1) {n y : Int} {z : zI} : z ∈ candL d f.1 f.2.1 n y ↔ z.2 = y ∧ evF f z.1 z.2 = n := by
  obtain ⟨a, b, c⟩ := f
  have hD' : b * b - 4 * a * c = d := hD
  simp only at ha ⊢
  have id4 : ∀ q : Int, (2 * a * q + b * y) * (2 * a * q + b * y) = 4 * a * (a * q * q + b * q * y + c * y * y) + d * y * y := by
    intro q
    rw [← hD']
    grind
  have dv : ∀ s q : Int, s - b * y = 2 * a * q → (s - b * y).tmod (2 * a) = 0 ∧ (s - b * y).tdiv (2 * a) = q := by
    intro s q h
    rw [h]
    exact ⟨Int.mul_tmod_right _ _, Int.mul_tdiv_cancel_left _ (by omega)⟩
  have vd : ∀ s : Int, (s - b * y).tmod (2 * a) = 0 → 2 * a * (s - b * y).tdiv (2 * a) + b * y = s := by
    intro s h
    have := Int.mul_tdiv_cancel' (Int.dvd_of_tmod_eq_zero h)
    omega
  have val : ∀ q s : Int, 2 * a * q + b * y = s → s * s = 4 * a * n + d * y * y → a * q * q + b * q * y + c * y * y = n := by
    intro q s h1 h2
    have h3 := id4 q
    rw [h1, h2] at h3
    have h4 : 4 * a * n = 4 * a * (a * q * q + b * q * y + c * y * y) := by omega
    exact (Int.eq_of_mul_eq_mul_left (by omega) h4).symm
  have ev : ∀ q : Int, evF (a, b, c) q y = a * q * q + b * q * y + c * y * y := fun _ => rfl
  unfold candL
  obtain ⟨s, hs⟩ : ∃ s, rtZ (4 * a * n + d * y * y) = s := ⟨_, rfl⟩
  have s0 := rtZ_nn (4 * a * n + d * y * y)
  rw [hs] at s0
  rw [hs]
  constructor
  · intro h
    split at h
    · rename_i hsq
      rcases List.mem_append.1 h with h | h
      · split at h
        · rename_i hm
          rw [List.mem_singleton] at h
          subst h
          refine ⟨rfl, ?_⟩
          rw [ev]
          exact val _ s (vd s hm) hsq
        · cases h
      · split at h
        · rename_i hm
          rw [List.mem_singleton] at h
          subst h
          refine ⟨rfl, ?_⟩
          rw [ev]
          exact val _ (-s) (vd (-s) hm.2) (by rw [Int.neg_mul_neg]; exact hsq)
        · cases h
    · cases h
  · rintro ⟨h1, h2⟩
    obtain ⟨q, y'⟩ := z
    simp only at h1 h2
    subst h1
    rw [ev] at h2
    have h3 := id4 q
    rw [h2] at h3
    rcases Int.lt_or_le (2 * a * q + b * y') 0 with c1 | c1
    · have e1 : s = -(2 * a * q + b * y') := by
        rw [← hs, ← h3, ← Int.neg_mul_neg]
        exact rtZ_sq (by omega)
      rw [if_pos (by rw [e1, Int.neg_mul_neg]; exact h3)]
      refine List.mem_append_right _ ?_
      obtain ⟨d1, d2⟩ := dv (-s) q (by omega)
      rw [if_pos ⟨by omega, d1⟩, d2]
      exact List.mem_singleton.2 rfl
    · have e1 : s = 2 * a * q + b * y' := by
        rw [← hs, ← h3]
        exact rtZ_sq c1
      rw [if_pos (by rw [e1]; exact h3)]
      refine List.mem_append_left _ ?_
      obtain ⟨d1, d2⟩ := dv s q (by omega)
      rw [if_pos d1, d2]
      exact List.mem_singleton.2 rfl
/-- a list of what is put -/
theorem put_all : ∀ (L : List zI) (s : xS), (s.1.Nodup ∧ s.1.length ≤ 256 ∧ (0 < s.2 → s.1.length = 256)) → ((L.foldl putX s).1.Nodup ∧ (L.foldl putX s).1.length ≤ 256 ∧ (0 < (L.foldl putX s).2 → (L.foldl putX s).1.length = 256)) ∧ (∀ z, z ∈ s.1 → z ∈ (L.foldl putX s).1) ∧ (∀ z, z ∈ (L.foldl putX s).1 → z ∈ s.1 ∨ z ∈ L) ∧ ((L.foldl putX s).2 = 0 → s.2 = 0 ∧ ∀ z, z ∈ L → z ∈ (L.foldl putX s).1) ∧ (s.2 = 0 → 0 < (L.foldl putX s).2 → ∃ z, z ∈ L ∧ ¬ z ∈ (L.foldl putX s).1)
  | [], s, h => ⟨h, fun z hz => hz, fun z hz => Or.inl hz, fun h0 => ⟨h0, fun z hz => by cases hz⟩, fun h1 h2 => by
    have h3 : 0 < s.2 := h2
    omega⟩
  | x :: t, s, h => by
    show ((t.foldl putX (putX s x)).1.Nodup ∧ _) ∧ _
    have hp : (putX s x = s ∧ x ∈ s.1) ∨ (putX s x = (s.1 ++ [x], 0) ∧ ¬ x ∈ s.1 ∧ s.1.length < 256 ∧ s.2 = 0) ∨ (putX s x = (s.1, s.2 + 1) ∧ ¬ x ∈ s.1 ∧ ¬ (s.1.length < 256 ∧ s.2 = 0)) := by
      unfold putX
      by_cases c : x ∈ s.1
      · exact Or.inl ⟨if_pos c, c⟩
      · right
        by_cases c2 : s.1.length < 256 ∧ s.2 = 0
        · left
          refine ⟨?_, c, c2⟩
          rw [if_neg c, if_pos c2]
        · right
          refine ⟨?_, c, c2⟩
          rw [if_neg c, if_neg c2]
    rcases hp with ⟨e, hx⟩ | ⟨e, hx, h1, h2⟩ | ⟨e, hx, h1⟩
    · obtain ⟨a1, a2, a3, a4, a5⟩ := put_all t s h
      show ((t.foldl putX (putX s x)).1.Nodup ∧ (t.foldl putX (putX s x)).1.length ≤ 256 ∧ (0 < (t.foldl putX (putX s x)).2 → (t.foldl putX (putX s x)).1.length = 256)) ∧ (∀ z, z ∈ s.1 → z ∈ (t.foldl putX (putX s x)).1) ∧ (∀ z, z ∈ (t.foldl putX (putX s x)).1 → z ∈ s.1 ∨ z ∈ x :: t) ∧ ((t.foldl putX (putX s x)).2 = 0 → s.2 = 0 ∧ ∀ z, z ∈ x :: t → z ∈ (t.foldl putX (putX s x)).1) ∧ (s.2 = 0 → 0 < (t.foldl putX (putX s x)).2 → ∃ z, z ∈ x :: t ∧ ¬ z ∈ (t.foldl putX (putX s x)).1)
      rw [e]
      refine ⟨a1, a2, fun z hz => (a3 z hz).imp id (List.mem_cons_of_mem _), fun h0 => ⟨(a4 h0).1, fun z hz => ?_⟩, fun h0 h1 => ?_⟩
      · rcases List.mem_cons.1 hz with q | q
        · rw [q]
          exact a2 x hx
        · exact (a4 h0).2 z q
      · obtain ⟨z, z1, z2⟩ := a5 h0 h1
        exact ⟨z, List.mem_cons_of_mem _ z1, z2⟩
    · obtain ⟨a1, a2, a3, a4, a5⟩ := put_all t (s.1 ++ [x], 0) ⟨by
        rw [List.nodup_append]
        exact ⟨h.1, List.pairwise_singleton _ _, fun a ha b hb q => hx (by rw [List.mem_singleton] at hb; rw [← hb, ← q]; exact ha)⟩, by
        rw [List.length_append]
        show s.1.length + 1 ≤ 256
        omega, fun z => by
        have : (0 : Nat) < 0 := z
        omega⟩
      show ((t.foldl putX (putX s x)).1.Nodup ∧ (t.foldl putX (putX s x)).1.length ≤ 256 ∧ (0 < (t.foldl putX (putX s x)).2 → (t.foldl putX (putX s x)).1.length = 256)) ∧ (∀ z, z ∈ s.1 → z ∈ (t.foldl putX (putX s x)).1) ∧ (∀ z, z ∈ (t.foldl putX (putX s x)).1 → z ∈ s.1 ∨ z ∈ x :: t) ∧ ((t.foldl putX (putX s x)).2 = 0 → s.2 = 0 ∧ ∀ z, z ∈ x :: t → z ∈ (t.foldl putX (putX s x)).1) ∧ (s.2 = 0 → 0 < (t.foldl putX (putX s x)).2 → ∃ z, z ∈ x :: t ∧ ¬ z ∈ (t.foldl putX (putX s x)).1)
      rw [e]
      refine ⟨a1, fun z hz => a2 z (List.mem_append_left _ hz), fun z hz => ?_, fun h0 => ⟨h2, fun z hz => ?_⟩, fun h0 h1 => ?_⟩
      · rcases a3 z hz with q | q
        · rcases List.mem_append.1 q with q | q
          · exact Or.inl q
          · rw [List.mem_singleton] at q
            exact Or.inr (by rw [q]; exact List.mem_cons_self ..)
        · exact Or.inr (List.mem_cons_of_mem _ q)
      · rcases List.mem_cons.1 hz with q | q
        · rw [q]
          exact a2 x (List.mem_append_right _ (List.mem_singleton.2 rfl))
        · exact (a4 h0).2 z q
      · obtain ⟨z, z1, z2⟩ := a5 rfl h1
        exact ⟨z, List.mem_cons_of_mem _ z1, z2⟩
    · have l256 : s.1.length = 256 := by
        rcases Nat.eq_zero_or_pos s.2 with q | q
        · have := h.2.1
          omega
        · exact h.2.2 q
      obtain ⟨a1, a2, a3, a4, a5⟩ := put_all t (s.1, s.2 + 1) ⟨h.1, h.2.1, fun _ => l256⟩
      show ((t.foldl putX (putX s x)).1.Nodup ∧ (t.foldl putX (putX s x)).1.length ≤ 256 ∧ (0 < (t.foldl putX (putX s x)).2 → (t.foldl putX (putX s x)).1.length = 256)) ∧ (∀ z, z ∈ s.1 → z ∈ (t.foldl putX (putX s x)).1) ∧ (∀ z, z ∈ (t.foldl putX (putX s x)).1 → z ∈ s.1 ∨ z ∈ x :: t) ∧ ((t.foldl putX (putX s x)).2 = 0 → s.2 = 0 ∧ ∀ z, z ∈ x :: t → z ∈ (t.foldl putX (putX s x)).1) ∧ (s.2 = 0 → 0 < (t.foldl putX (putX s x)).2 → ∃ z, z ∈ x :: t ∧ ¬ z ∈ (t.foldl putX (putX s x)).1)
      rw [e]
      refine ⟨a1, a2, fun z hz => (a3 z hz).imp id (List.mem_cons_of_mem _), fun h0 => ?_, fun h0 h1 => ?_⟩
      · have h3 : s.2 + 1 = 0 := (a4 h0).1
        omega
      · -- the list is full: x stays out
        refine ⟨x, List.mem_cons_self .., fun q => ?_⟩
        have sub : ∀ z, z ∈ s.1 → z ∈ (t.foldl putX (s.1, s.2 + 1)).1 := a2
        have nd : (x :: s.1).Nodup := List.nodup_cons.2 ⟨hx, h.1⟩
        have hl := len_sub (x :: s.1) (t.foldl putX (s.1, s.2 + 1)).1 nd (fun z hz => by
          rcases List.mem_cons.1 hz with y | y
          · rw [y]
            exact q
          · exact sub z y)
        have h4 := a1.2.1
        rw [List.length_cons] at hl
        omega
/-- what the model goes through -/
theorem bel_fold (d : Int) (f : Fm) (an : Nat → Int) (m : Nat) (A B n : Int) : ∀ (k : Nat) (y : Int) (s : xS), belS d f an m A B n k y s = (((List.range k).flatMap (fun i : Nat => candL d A B n (y + i))).map (fun z => solZ d f (abk an m z))).foldl putX s
  | 0, _, _ => rfl
  | k + 1, y, s => by
    show belS d f an m A B n k (y + 1) (xsF d f an m s (candL d A B n y)) = _
    rw [bel_fold d f an m A B n k (y + 1), List.range_succ_eq_map, List.flatMap_cons, List.map_append, List.foldl_append, List.flatMap_map]
    have e1 : y + ((0 : Nat) : Int) = y := by omega
    rw [e1]
    have e2 : xsF d f an m s (candL d A B n y) = ((candL d A B n y).map (fun z => solZ d f (abk an m z))).foldl putX s := by
      unfold xsF
      rw [List.foldl_map]
    rw [e2]
    congr 3
    funext i
    have e3 : y + 1 + (i : Int) = y + ((i + 1 : Nat) : Int) := by omega
    show candL d A B n (y + 1 + (i : Int)) = candL d A B n (y + ((Nat.succ i : Nat) : Int))
    rw [e3]
