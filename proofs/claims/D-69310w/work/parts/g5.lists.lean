/-! lists of trials that are met -/
theorem cnt_or {α : Type} (p q : α → Bool) : ∀ L : List α, (∀ t, t ∈ L → p t = true → q t = true → False) → L.countP (fun t => p t || q t) = L.countP p + L.countP q
  | [], _ => rfl
  | x :: t, h => by
    have ih := cnt_or p q t (fun y hy => h y (List.mem_cons_of_mem _ hy))
    have hx := h x (List.mem_cons_self ..)
    rw [List.countP_cons, List.countP_cons, List.countP_cons, ih]
    cases hp : p x <;> cases hq : q x
    · simp
    · simp
      omega
    · simp
      omega
    · exact (hx hp hq).elim
section
variable {d w : Int} {r0 : Fm}
def metN (d w : Int) (r0 : Fm) (N : Nat) (t : Tr) : Bool := (List.range N).any (fun j => hitT (itF d w j r0) t)
theorem met_suc (N : Nat) (t : Tr) : metN d w r0 (N + 1) t = (metN d w r0 N t || hitT (itF d w N r0) t) := by
  unfold metN
  rw [List.range_succ, List.any_append]
  simp
theorem met_iff {N : Nat} {t : Tr} : metN d w r0 N t = true ↔ ∃ j, j < N ∧ hitT (itF d w j r0) t = true := by
  unfold metN
  rw [List.any_eq_true]
  constructor
  · rintro ⟨j, h1, h2⟩
    exact ⟨j, List.mem_range.1 h1, h2⟩
  · rintro ⟨j, h1, h2⟩
    exact ⟨j, List.mem_range.2 h1, h2⟩
theorem mtM_eq (T : List Tr) : ∀ (N i : Nat), mtM d w r0 T N i = T[i]?.any (metN d w r0 N)
  | 0, i => by
    show false = _
    cases T[i]? with
    | none => rfl
    | some t => rfl
  | N + 1, i => by
    show (mtM d w r0 T N i || T[i]?.any (hitT (itF d w N r0))) = _
    rw [mtM_eq T N i]
    cases T[i]? with
    | none => rfl
    | some t => exact (met_suc N t).symm
theorem mtV_eq (T : List Tr) : ∀ N, (∀ t, t ∈ T → ∀ i j, i < N → j < N → hitT (itF d w i r0) t = true → hitT (itF d w j r0) t = true → i = j) → mtV d w r0 T N = T.countP (metN d w r0 N)
  | 0, _ => by
    show 0 = _
    symm
    rw [List.countP_eq_zero]
    intro t _ h
    cases h
  | N + 1, h => by
    show mtV d w r0 T N + T.countP (hitT (itF d w N r0)) = _
    have e : (fun t => metN d w r0 (N + 1) t) = fun t => metN d w r0 N t || hitT (itF d w N r0) t := by
      funext t
      exact met_suc N t
    rw [mtV_eq T N (fun t ht i j hi hj => h t ht i j (by omega) (by omega))]
    show _ = T.countP (fun t => metN d w r0 (N + 1) t)
    rw [e, cnt_or _ _ T]
    intro t ht h1 h2
    obtain ⟨j, j1, j2⟩ := met_iff.1 h1
    have := h t ht j N (by omega) (by omega) j2 h2
    omega
end
theorem mCt_eq (T : List Tr) (p : Tr → Bool) : ∀ k, mCt (fun i => T[i]?.any p) k = (T.take k).countP p
  | 0 => rfl
  | k + 1 => by
    show mCt (fun i => T[i]?.any p) k + (if T[k]?.any p = true then 1 else 0) = _
    rw [mCt_eq T p k, List.take_succ, List.countP_append]
    congr 1
    cases T[k]? with
    | none => rfl
    | some t =>
      show (if p t = true then 1 else 0) = List.countP p [t]
      rw [List.countP_singleton]
theorem flt_idx {α : Type} (p : α → Bool) : ∀ (L : List α) (i : Nat) (x : α), (L.filter p)[i]? = some x → ∃ k, L[k]? = some x ∧ p x = true ∧ (L.take k).countP p = i
  | [], i, x, h => by cases h
  | y :: t, i, x, h => by
    cases hp : p y with
    | true =>
      rw [List.filter_cons_of_pos hp] at h
      cases i with
      | zero =>
        have : y = x := by simpa using h
        subst this
        exact ⟨0, rfl, hp, rfl⟩
      | succ i =>
        obtain ⟨k, k1, k2, k3⟩ := flt_idx p t i x (by simpa using h)
        refine ⟨k + 1, by simpa using k1, k2, ?_⟩
        rw [List.take_succ_cons, List.countP_cons, k3, hp]
        simp
    | false =>
      rw [List.filter_cons_of_neg (by rw [hp]; decide)] at h
      obtain ⟨k, k1, k2, k3⟩ := flt_idx p t i x h
      refine ⟨k + 1, by simpa using k1, k2, ?_⟩
      rw [List.take_succ_cons, List.countP_cons, k3, hp]
      simp
/-- rows of roots -/
theorem rR_flat {d g m : Int} (Rf : Int → Int → Int → List Fam) : ∀ (c b : Nat), rR Rf d g m c b = ((List.range' b c).filter (fun b => decide (rtD (4 * m.natAbs) d b))).flatMap (fun b : Nat => Rf g m b)
  | 0, b => rfl
  | c + 1, b => by
    show (if decide (rtD (4 * m.natAbs) d b) = true then Rf g m b else []) ++ rR Rf d g m c (b + 1) = _
    rw [rR_flat Rf c (b + 1), List.range'_succ]
    by_cases h : rtD (4 * m.natAbs) d b
    · rw [if_pos (by simpa using h), List.filter_cons_of_pos (by simpa using h), List.flatMap_cons]
    · rw [if_neg (by simpa using h), List.filter_cons_of_neg (by simpa using h), List.nil_append]
theorem rR_rts {d g m : Int} (Rf : Int → Int → Int → List Fam) : rR Rf d g m (2 * m.natAbs) 0 = (rtsOf d m).flatMap (fun b : Nat => Rf g m b) := by
  rw [rR_flat, ← List.range_eq_range']
  rfl
theorem flat_if {α β : Type} (p : α → Bool) (f : α → β) : ∀ L : List α, L.flatMap (fun a => if p a = true then [f a] else []) = (L.filter p).map f
  | [] => rfl
  | a :: t => by
    rw [List.flatMap_cons, flat_if p f t]
    cases h : p a with
    | true => rw [if_pos rfl, List.filter_cons_of_pos h]; rfl
    | false => rw [if_neg (by decide), List.filter_cons_of_neg (by rw [h]; decide)]; rfl
/-- walk above 0, for any form -/
theorem cf_nxP {d w : Int} (hn : nsq d) (hdb : d ≤ 1048576) (hd : 0 < d) (hw : isWd d w) (hw4 : w ≤ 1024) {f : Fm} (hD : dF f = d) {H : Nat} (hH : 1048576 ≤ H) (ho : cfB f H) : cfB (nx d w f) H := by
  obtain ⟨o1, o2, o3⟩ := ho
  have c0 := nsq_3 hn hD
  have e1 : (nx d w f).1 = f.2.2 := rfl
  have h5 := nx_c1 (w := w) hD c0
  rcases Int.lt_or_le w (f.2.2.natAbs : Int) with g | g
  · have r := red1 hd hw hD c0 g
    exact ⟨by rw [e1]; omega, by omega, by omega⟩
  · have h1 := nbE_in d w f.2.1 f.2.2 c0
    unfold hiE at h1
    rw [if_neg (by omega)] at h1
    have h2 : (nx d w f).2.1 = nbE d w f.2.1 f.2.2 := rfl
    rw [← h2] at h1
    have h3 := sq_abs (x := (nx d w f).2.1) (C := w) (by omega) (by omega)
    have h4 := hw.2.1
    have h7 := sqn (nx d w f).2.1
    have : 1 * (4 * ((nx d w f).2.2.natAbs : Int)) ≤ (f.2.2.natAbs : Int) * (4 * (nx d w f).2.2.natAbs) := Int.mul_le_mul_of_nonneg_right (by omega) (by omega)
    exact ⟨by rw [e1]; omega, by omega, by omega⟩
theorem trm_ofP {d w : Int} (hn : nsq d) (hdb : d ≤ 1048576) (hd : 0 < d) (hw : isWd d w) (hw4 : w ≤ 1024) {H : Nat} (hH : 1048576 ≤ H ∧ H ≤ 1073741824) : ∀ (m : Nat) (f : Fm), dF f = d → cfB f H → rdF d w (itF d w m f) = true → ∃ k, k ≤ m ∧ trm d w k f
  | 0, f, hD, h, hr => ⟨0, Nat.le_refl _, by
    obtain ⟨o1, o2, o3⟩ := h
    exact ⟨by omega, by omega, by omega, nsq_3 hn hD⟩, hr⟩
  | m + 1, f, hD, h, hr => by
    have okf : okF f := by
      obtain ⟨o1, o2, o3⟩ := h
      exact ⟨by omega, by omega, by omega, nsq_3 hn hD⟩
    cases g : rdF d w f with
    | true => exact ⟨0, Nat.zero_le _, okf, g⟩
    | false =>
      obtain ⟨k, k1, k2⟩ := trm_ofP hn hdb hd hw hw4 hH m (nx d w f) (nx_d hD (nsq_3 hn hD)) (cf_nxP hn hdb hd hw hw4 hD hH.1 h) hr
      exact ⟨k + 1, by omega, ⟨okf, g⟩, k2⟩
theorem walkP {d w : Int} (hn : nsq d) (hdb : d ≤ 1048576) (hd : 0 < d) (hw : isWd d w) (hw4 : w ≤ 1024) {f : Fm} (hD : dF f = d) {H : Nat} (hH : 1048576 ≤ H ∧ H ≤ 1073741824) (ho : cfB f H) : ∃ e, trm d w e f ∧ bdE (itM d w e f I2) (16384 * H) := by
  have w1 : 1 ≤ w := by
    rcases Int.lt_or_le w 1 with z | z
    · exfalso
      have := hw.1
      have : w = 0 := by omega
      subst this
      have := hw.2.2
      omega
    · exact z
  have ho' := ho
  obtain ⟨o1, o2, o3⟩ := ho'
  obtain ⟨m, m1, m2⟩ := pK_far hn hd hw hw4 16 f (4 * H) hD (by omega) (by omega) (fun _ => by omega) (by omega)
  obtain ⟨e, e1, e2⟩ := trm_ofP hn hdb hd hw hw4 hH m f hD ho m1
  have hp := pK_mono d w f e1
  obtain ⟨h1, h2, h3, h4⟩ := itM_pK d w f e
  exact ⟨e, e2, by omega, by omega, by omega, by omega⟩
