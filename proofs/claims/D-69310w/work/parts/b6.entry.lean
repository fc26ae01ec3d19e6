/-! the law's entry: from the kit's walk to the mini machine -/
theorem mj_inst {ci : Nat} {C : String} {T : u_T} {N : Nat} (h : mj_cl[ci]? = some (C, T, N)) : ∃ n, Cond.instantiable C n ∈ lw_tbl := by
  match ci, h with
  | 0, h => cases h; exact ⟨23, mj_at_mem (w := 1031) (by decide +kernel)⟩
  | 1, h => cases h; exact ⟨10, mj_at_mem (w := 1039) (by decide +kernel)⟩
  | 2, h => cases h; exact ⟨4, mj_at_mem (w := 1045) (by decide +kernel)⟩
  | 3, h => cases h; exact ⟨2, mj_at_mem (w := 1065) (by decide +kernel)⟩
  | 4, h => cases h; exact ⟨6, mj_at_mem (w := 1086) (by decide +kernel)⟩
  | 5, h => cases h; exact ⟨3, mj_at_mem (w := 1092) (by decide +kernel)⟩
  | 6, h => cases h; exact ⟨3, mj_at_mem (w := 1151) (by decide +kernel)⟩
  | 7, h => cases h; exact ⟨8, mj_at_mem (w := 1224) (by decide +kernel)⟩
  | 8, h => cases h; exact ⟨14, mj_at_mem (w := 2023) (by decide +kernel)⟩
  | 9, h => cases h; exact ⟨5, mj_at_mem (w := 2025) (by decide +kernel)⟩
  | 10, h => cases h; exact ⟨3, mj_at_mem (w := 2031) (by decide +kernel)⟩
  | 11, h => cases h; exact ⟨2, mj_at_mem (w := 2124) (by decide +kernel)⟩
  | 12, h => cases h; exact ⟨12, mj_at_mem (w := 2139) (by decide +kernel)⟩
  | 13, h => cases h; exact ⟨4, mj_at_mem (w := 2145) (by decide +kernel)⟩
  | 14, h => cases h; exact ⟨5, mj_at_mem (w := 2167) (by decide +kernel)⟩
  | 15, h => cases h; exact ⟨4, mj_at_mem (w := 2239) (by decide +kernel)⟩
  | 16, h => cases h; exact ⟨2, mj_at_mem (w := 3007) (by decide +kernel)⟩
  | 17, h => cases h; exact ⟨58, mj_at_mem (w := 6200) (by decide +kernel)⟩
  | 18, h => cases h; exact ⟨6, mj_at_mem (w := 3120) (by decide +kernel)⟩
  | 19, h => cases h; exact ⟨6, mj_at_mem (w := 3158) (by decide +kernel)⟩
  | 20, h => cases h; exact ⟨6, mj_at_mem (w := 5055) (by decide +kernel)⟩
  | 21, h => cases h; exact ⟨6, mj_at_mem (w := 5081) (by decide +kernel)⟩
  | k + 22, h => simp [mj_cl] at h
theorem mj_arrC {s : State} {A : Array Value} {ty : FieldType} (h : (Cond.arrayClass ty).before A s = true) (hp : ∀ C, ty ≠ .object C) : ∃ cA, ArrOfT s cA ty ∧ va_RA s cA ty := by
  obtain ⟨cA, kA, comp, h1, h2, h3⟩ := Cond.arrayClass_spec h
  refine ⟨cA, fun n z => ⟨fun k h => (by cases h), kA, h2, comp, h3⟩, ?_⟩
  cases ty with
  | object C => exact absurd rfl (hp C)
  | _ => exact h1
theorem mj_arrO {s : State} {A : Array Value} {C : String} (h : (Cond.arrayOver (.object C)).before A s = true) : ∃ cA, ArrOfT s cA (.object C) ∧ va_RA s cA (.object C) := by
  obtain ⟨comp, cA, kA, h1, -, h2, h3, h4⟩ := Cond.arrayOver_spec h
  exact ⟨cA, fun n z => ⟨fun k h => (by cases h), kA, h2, comp, h3⟩, kA, comp, h2, h3, h1, h4⟩
/-- the mini heap at the law's start: the script alone -/
def h00 (L : Nat) (xs : Nat → Int32) : mj_H := (fun a k => if a = 0 then xs k else 0, fun _ _ => 0, fun _ _ => none, fun a => if a = 0 then (7, L) else (0, 0), 1)
theorem mj_entryK {s : State} {b L : Nat} {xs : Nat → Int32} {A : Array Value} (l : Launch) (hfl : l.flags = flags0) (hts : ∀ w ∈ lw_tbl, w.before A s = true) (hxs : ∀ w ∈ mj_xs, w.before #[] s = true) (hX : va_X b L xs s s.heap) (hbl : b < s.heap.size) : ∃ G : mj_G, gb G = b ∧ gN G + 1 = s.heap.size ∧ gl G = l ∧ gL G = L ∧ gx G = xs ∧ gH G = s.heap ∧ mj_KK G s ∧ mj_P G (h00 L xs) s.heap := by
  have hk : ∀ ci : Nat, ∃ (cC : ClassId) (iS : Nat → Nat), ∀ q : vw_C, mj_cl[ci]? = some q → u_Kn s q.1 q.2.1 q.2.2 cC iS := by
    intro ci
    cases hq : mj_cl[ci]? with
    | none => exact ⟨0, fun _ => 0, fun q h => by cases h⟩
    | some q =>
      obtain ⟨C, T, N⟩ := q
      obtain ⟨n, hn⟩ := mj_inst hq
      obtain ⟨cC, iS, hu⟩ := u_known (C := C) (T := T) (N := N) (n := n) hts (mj_cls hq).1 (hts _ hn)
      refine ⟨cC, iS, fun q' h => ?_⟩
      cases h
      exact hu
  obtain ⟨a1, a1p⟩ := mj_arrC (hts (.arrayClass .int) (mj_at_mem (w := 1063) (by decide +kernel))) (fun C h => by cases h)
  obtain ⟨a2, a2p⟩ := mj_arrC (hts (.arrayClass .long) (mj_at_mem (w := 2237) (by decide +kernel))) (fun C h => by cases h)
  obtain ⟨a3, a3p⟩ := mj_arrC (hts (.arrayClass .short) (mj_at_mem (w := 2021) (by decide +kernel))) (fun C h => by cases h)
  obtain ⟨a4, a4p⟩ := mj_arrC (hts (.arrayClass .boolean) (mj_at_mem (w := 2122) (by decide +kernel))) (fun C h => by cases h)
  obtain ⟨a5, a5p⟩ := mj_arrO (hts (.arrayOver (.object "FormHouse$Whole")) (mj_at_mem (w := 1188) (by decide +kernel)))
  obtain ⟨a6, a6p⟩ := mj_arrO (hts (.arrayOver (.object "FormHouse$Pair")) (mj_at_mem (w := 3043) (by decide +kernel)))
  let dA : Nat → ClassId := fun k => if k = 1 then a1 else if k = 2 then a2 else if k = 3 then a3 else if k = 4 then a4 else if k = 5 then a5 else a6
  let D : va_G := (fun ci => Classical.choose (hk ci), fun ci => Classical.choose (Classical.choose_spec (hk ci)))
  let G : mj_G := (b, s.heap.size - 1, D, dA, s.heap, l, L, xs)
  have hsz : gN G + 1 = s.heap.size := by
    show s.heap.size - 1 + 1 = _
    omega
  refine ⟨G, rfl, hsz, rfl, rfl, rfl, rfl, ⟨⟨fun ci q hq => ?_, fun k q hq => ?_⟩, fun w hw hg => ?_, ⟨hX, ⟨s, rfl, fun w hw => ?_⟩, hsz.symm, hfl⟩, ?_⟩, ⟨?_, ?_⟩⟩
  · exact Classical.choose_spec (Classical.choose_spec (hk ci)) q hq
  · have e : (mj_tys G) = [(a1, .int), (a2, .long), (a3, .short), (a4, .boolean), (a5, .object "FormHouse$Whole"), (a6, .object "FormHouse$Pair")] := rfl
    rw [e] at hq
    match k, hq with
    | 0, hq => cases hq; exact a1p
    | 1, hq => cases hq; exact a2p
    | 2, hq => cases hq; exact a3p
    | 3, hq => cases hq; exact a4p
    | 4, hq => cases hq; exact a5p
    | 5, hq => cases hq; exact a6p
    | k + 6, hq => simp at hq
  · have h1 := hts w hw
    by_cases ho : w.onTables = true
    · exact va_tabs ho rfl h1
    · cases w <;> first | (exact absurd rfl ho) | (simp [mj_good, Cond.onTables] at hg; done) | exact h1
  · exact hxs w hw
  · show b ≤ s.heap.size - 1
    omega
  · exact ⟨by show s.heap.size = s.heap.size - 1 + 1; omega, Nat.one_pos, fun q hq => rfl⟩
  · intro k
    have kd : ∀ k, k ≠ 0 → hK (h00 L xs) k = 0 := fun k hk => by
      show (if k = 0 then (7, L) else (0, 0)).1 = 0
      rw [if_neg hk]
    by_cases h0 : k = 0
    · subst h0
      have k7 : hK (h00 L xs) 0 = 7 := rfl
      refine ⟨fun _ => Nat.one_pos, fun _ h => absurd k7 h, fun h => ?_, fun h => ?_, fun h => ?_, fun _ => ⟨rfl, rfl, fun j => rfl⟩, fun ci r h => ?_, fun ci h => ?_, fun h => absurd rfl h⟩
      · rw [k7] at h
        omega
      · rw [k7] at h
        omega
      · rw [k7] at h
        omega
      · rw [k7] at h
        omega
      · rw [k7] at h
        omega
    · have kz := kd k h0
      refine ⟨fun h => absurd kz h, fun h => absurd kz h, fun h => ?_, fun h => ?_, fun h => ?_, fun h => ?_, fun ci r h => ?_, fun ci h => ?_, fun _ cell h => ?_⟩
      · rw [kz] at h
        omega
      · rw [kz] at h
        omega
      · rw [kz] at h
        omega
      · rw [kz] at h
        omega
      · rw [kz] at h
        omega
      · rw [kz] at h
        omega
      · exfalso
        have h1 : mj_ad G k = s.heap.size - 1 + k := by
          unfold mj_ad
          rw [if_neg h0]
        rw [h1] at h
        have := (Array.getElem?_eq_some_iff.mp h).1
        omega
