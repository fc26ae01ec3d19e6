/-! the classes as the walks make them are the orbits -/
def oN (nxt : Nat → Nat) (k : Nat) : Nat → Nat
  | 0 => k
  | m + 1 => nxt (oN nxt k m)
theorem oN_add (nxt : Nat → Nat) (k a : Nat) : ∀ b, oN nxt k (a + b) = oN nxt (oN nxt k a) b
  | 0 => rfl
  | b + 1 => congrArg nxt (oN_add nxt k a b)
section
variable {nxt : Nat → Nat} {n : Nat}
theorem oN_lt (H1 : ∀ i, i < n → nxt i < n) {k : Nat} (hk : k < n) : ∀ m, oN nxt k m < n
  | 0 => hk
  | m + 1 => H1 _ (oN_lt H1 hk m)
theorem oN_canc (H1 : ∀ i, i < n → nxt i < n) (H2 : ∀ i j, i < n → j < n → nxt i = nxt j → i = j) {k : Nat} (hk : k < n) (t : Nat) : ∀ i, oN nxt k i = oN nxt k (i + t) → k = oN nxt k t
  | 0, h => by
    rw [Nat.zero_add] at h
    exact h
  | i + 1, h => by
    rw [show i + 1 + t = (i + t) + 1 by omega] at h
    exact oN_canc H1 H2 hk t i (H2 _ _ (oN_lt H1 hk i) (oN_lt H1 hk (i + t)) h)
theorem oN_per (H1 : ∀ i, i < n → nxt i < n) (H2 : ∀ i j, i < n → j < n → nxt i = nxt j → i = j) {k : Nat} (hk : k < n) : ∃ N, 0 < N ∧ N ≤ n ∧ oN nxt k N = k ∧ ∀ i j, i < j → j < N → oN nxt k i ≠ oN nxt k j := by
  obtain ⟨i, j, h1, h2, h3⟩ := pigeon n (oN nxt k) (fun i _ => oN_lt H1 hk i)
  have h4 := oN_canc H1 H2 hk (j - i) i (by rw [show i + (j - i) = j by omega]; exact h3)
  obtain ⟨N, n1, ⟨n2, n3⟩, n4⟩ := least_of (P := fun N => 0 < N ∧ oN nxt k N = k) (j - i) ⟨by omega, h4.symm⟩
  refine ⟨N, n2, by omega, n3, fun a b hab hb e => ?_⟩
  have := oN_canc H1 H2 hk (b - a) a (by rw [show a + (b - a) = b by omega]; exact e)
  exact n4 (b - a) (by omega) ⟨by omega, this.symm⟩
def mkC (nxt : Nat → Nat) (cls : Nat → Int) (c : Int) (k : Nat) : Nat → Nat → Int
  | 0 => cls
  | j + 1 => upN (mkC nxt cls c k j) (oN nxt k j) c
theorem mkC_in (nxt : Nat → Nat) (cls : Nat → Int) (c : Int) (k : Nat) : ∀ j j', j' < j → mkC nxt cls c k j (oN nxt k j') = c
  | 0, j', h => by omega
  | j + 1, j', h => by
    show upN (mkC nxt cls c k j) (oN nxt k j) c (oN nxt k j') = c
    unfold upN
    split
    · rfl
    · rename_i hne
      refine mkC_in nxt cls c k j j' ?_
      rcases Nat.lt_or_ge j' j with z | z
      · exact z
      · exact (hne (by rw [show j' = j by omega])).elim
theorem mkC_out (nxt : Nat → Nat) (cls : Nat → Int) (c : Int) (k : Nat) {i : Nat} : ∀ j, (∀ j', j' < j → oN nxt k j' ≠ i) → mkC nxt cls c k j i = cls i
  | 0, _ => rfl
  | j + 1, h => by
    show upN (mkC nxt cls c k j) (oN nxt k j) c i = cls i
    unfold upN
    rw [if_neg (fun z => h j (by omega) z.symm)]
    exact mkC_out nxt cls c k j (fun j' hj => h j' (by omega))
theorem wk_mk {cls : Nat → Int} {c : Int} (hc : c ≠ -1) {k N : Nat} (hN0 : 0 < N) (hN : oN nxt k N = k) (hd : ∀ i j, i < j → j < N → oN nxt k i ≠ oN nxt k j) (hm : ∀ j, j < N → cls (oN nxt k j) = -1) : ∀ (t j f : Nat), j + t = N → t + 1 ≤ f → wkC nxt c f (oN nxt k j) (mkC nxt cls c k j) = mkC nxt cls c k N
  | 0, j, 0, _, hf => by omega
  | 0, j, f + 1, hj, hf => by
    have : j = N := by omega
    subst this
    show (if mkC nxt cls c k j (oN nxt k j) = -1 then _ else mkC nxt cls c k j) = _
    rw [if_neg]
    rw [hN]
    have := mkC_in nxt cls c k j 0 hN0
    rw [show oN nxt k 0 = k from rfl] at this
    rw [this]
    exact hc
  | t + 1, j, 0, _, hf => by omega
  | t + 1, j, f + 1, hj, hf => by
    show (if mkC nxt cls c k j (oN nxt k j) = -1 then wkC nxt c f (nxt (oN nxt k j)) (upN (mkC nxt cls c k j) (oN nxt k j) c) else _) = _
    rw [mkC_out nxt cls c k j (fun j' hj' => hd j' j hj' (by omega)), if_pos (hm j (by omega))]
    exact wk_mk hc hN0 hN hd hm t (j + 1) f (by omega) (by omega)
/-- what is so of the classes after k places -/
def clI (nxt : Nat → Nat) (n k : Nat) (S : (Nat → Int) × Nat × (Nat → Nat)) : Prop :=
  (∀ i, i < n → S.1 i = -1 ∨ (0 ≤ S.1 i ∧ S.1 i < S.2.1)) ∧ (∀ i, i < n → S.1 (nxt i) = S.1 i) ∧ (∀ i, i < k → i < n → S.1 i ≠ -1) ∧ (∀ c : Nat, c < S.2.1 → S.2.2 c < n ∧ S.1 (S.2.2 c) = c) ∧ (∀ i, i < n → ∀ c : Nat, c < S.2.1 → S.1 i = c → ∃ m, i = oN nxt (S.2.2 c) m)
theorem clI_o (H1 : ∀ i, i < n → nxt i < n) {k : Nat} {S : (Nat → Int) × Nat × (Nat → Nat)} (h : clI nxt n k S) {i : Nat} (hi : i < n) : ∀ m, S.1 (oN nxt i m) = S.1 i
  | 0 => rfl
  | m + 1 => (h.2.1 _ (oN_lt H1 hi m)).trans (clI_o H1 h hi m)
theorem clI_s (H1 : ∀ i, i < n → nxt i < n) (H2 : ∀ i j, i < n → j < n → nxt i = nxt j → i = j) {k : Nat} (hk : k < n) {cls : Nat → Int} {cnt : Nat} {nm : Nat → Nat} (h : clI nxt n k (cls, cnt, nm)) (hm : cls k = -1) : clI nxt n (k + 1) (wkC nxt cnt (n + 1) k cls, cnt + 1, upN nm cnt k) := by
  obtain ⟨N, n1, n2, n3, n4⟩ := oN_per H1 H2 hk
  have ho : ∀ j, cls (oN nxt k j) = -1 := fun j => (clI_o H1 h hk j).trans hm
  have e : wkC nxt cnt (n + 1) k cls = mkC nxt cls cnt k N := wk_mk (c := (cnt : Int)) (by omega) n1 n3 n4 (fun j _ => ho j) N 0 (n + 1) (by omega) (by omega)
  rw [e]
  obtain ⟨h1, h2, h3, h4, h5⟩ := h
  simp only at h1 h2 h3 h4 h5
  have hin := mkC_in nxt cls (cnt : Int) k N
  have hout := fun i => mkC_out nxt cls (cnt : Int) k (i := i) N
  have dec : ∀ i, (∃ j, j < N ∧ oN nxt k j = i) ∨ (∀ j, j < N → oN nxt k j ≠ i) := by
    intro i
    by_cases c : ∃ j, j < N ∧ oN nxt k j = i
    · exact Or.inl c
    · exact Or.inr (fun j hj e => c ⟨j, hj, e⟩)
  refine ⟨fun i hi => ?_, fun i hi => ?_, fun i hi hin' => ?_, fun c hc => ?_, fun i hi c hc hci => ?_⟩
  · show mkC nxt cls cnt k N i = -1 ∨ (0 ≤ mkC nxt cls cnt k N i ∧ mkC nxt cls cnt k N i < ((cnt + 1 : Nat) : Int))
    rcases dec i with ⟨j, j1, rfl⟩ | z
    · rw [hin j j1]
      omega
    · rw [hout i z]
      have := h1 i hi
      omega
  · show mkC nxt cls cnt k N (nxt i) = mkC nxt cls cnt k N i
    rcases dec i with ⟨j, j1, rfl⟩ | z
    · rw [hin j j1]
      show mkC nxt cls cnt k N (oN nxt k (j + 1)) = cnt
      rcases Nat.lt_or_ge (j + 1) N with y | y
      · exact hin _ y
      · rw [show j + 1 = N by omega, n3]
        exact hin 0 n1
    · rw [hout i z, hout (nxt i), h2 i hi]
      intro j hj e1
      cases j with
      | zero =>
        have e2 : nxt (oN nxt k (N - 1)) = nxt i := by
          show oN nxt k (N - 1 + 1) = nxt i
          rw [show N - 1 + 1 = N by omega, n3]
          exact e1
        exact z (N - 1) (by omega) (H2 _ _ (oN_lt H1 hk _) hi e2)
      | succ j => exact z j (by omega) (H2 _ _ (oN_lt H1 hk _) hi e1)
  · show mkC nxt cls cnt k N i ≠ -1
    rcases dec i with ⟨j, j1, rfl⟩ | z
    · rw [hin j j1]
      omega
    · rw [hout i z]
      have : i ≠ k := fun q => z 0 n1 q.symm
      exact h3 i (by omega) hin'
  · show upN nm cnt k c < n ∧ mkC nxt cls cnt k N (upN nm cnt k c) = c
    have hc' : c < cnt + 1 := hc
    unfold upN
    split
    · rename_i q
      subst q
      exact ⟨hk, hin 0 n1⟩
    · rename_i q
      obtain ⟨a1, a2⟩ := h4 c (by omega)
      refine ⟨a1, ?_⟩
      rw [hout]
      · exact a2
      · intro j hj e1
        have := ho j
        rw [e1, a2] at this
        omega
  · have hc' : c < cnt + 1 := hc
    have hci' : mkC nxt cls cnt k N i = c := hci
    show ∃ m, i = oN nxt (upN nm cnt k c) m
    rcases dec i with ⟨j, j1, rfl⟩ | z
    · rw [hin j j1] at hci'
      have : c = cnt := by omega
      subst this
      refine ⟨j, ?_⟩
      unfold upN
      rw [if_pos rfl]
    · rw [hout i z] at hci'
      have := h1 i hi
      have hlt : c < cnt := by omega
      unfold upN
      rw [if_neg (by omega)]
      exact h5 i hi c hlt hci'
theorem clI_all (H1 : ∀ i, i < n → nxt i < n) (H2 : ∀ i j, i < n → j < n → nxt i = nxt j → i = j) : ∀ k, k ≤ n → clI nxt n k (clSt nxt n k)
  | 0, _ => ⟨fun i _ => Or.inl rfl, fun i _ => rfl, fun i h _ => by omega, fun c h => absurd h (Nat.not_lt_zero _), fun i _ c h _ => absurd h (Nat.not_lt_zero _)⟩
  | k + 1, h => by
    have ih := clI_all H1 H2 k (by omega)
    rw [clSt_s]
    split
    · rename_i hm
      exact clI_s H1 H2 (by omega) ih hm
    · rename_i hm
      obtain ⟨h1, h2, h3, h4, h5⟩ := ih
      refine ⟨h1, h2, fun i hi hin => ?_, h4, h5⟩
      by_cases c : i = k
      · subst c
        exact hm
      · exact h3 i (by omega) hin
theorem clSt_mono (nxt : Nat → Nat) (n k : Nat) : ∀ t, (clSt nxt n k).2.1 ≤ (clSt nxt n (k + t)).2.1
  | 0 => Nat.le_refl _
  | t + 1 => by
    refine Nat.le_trans (clSt_mono nxt n k t) ?_
    show _ ≤ (clSt nxt n (k + t + 1)).2.1
    rw [clSt_s]
    split
    · exact Nat.le_succ _
    · exact Nat.le_refl _
theorem oN_mul {k N : Nat} (hN : oN nxt k N = k) : ∀ m, oN nxt k (N * m) = k
  | 0 => rfl
  | m + 1 => by
    rw [Nat.mul_succ, oN_add, oN_mul hN m, hN]
/-- two places have one class when one comes to the other -/
theorem cls_orb (H1 : ∀ i, i < n → nxt i < n) (H2 : ∀ i j, i < n → j < n → nxt i = nxt j → i = j) {i j : Nat} (hi : i < n) (hj : j < n) : (clSt nxt n n).1 i = (clSt nxt n n).1 j ↔ ∃ m, j = oN nxt i m := by
  have h := clI_all H1 H2 n (Nat.le_refl _)
  constructor
  · intro e
    obtain ⟨h1, h2, h3, h4, h5⟩ := id h
    have a1 := h1 i hi
    have a2 := h3 i hi hi
    obtain ⟨c, hc⟩ : ∃ c : Nat, (clSt nxt n n).1 i = c := ⟨((clSt nxt n n).1 i).toNat, by omega⟩
    have hc' : c < (clSt nxt n n).2.1 := by omega
    obtain ⟨m1, e1⟩ := h5 i hi c hc' hc
    obtain ⟨m2, e2⟩ := h5 j hj c hc' (e.symm.trans hc)
    obtain ⟨N, n1, n2, n3, n4⟩ := oN_per H1 H2 (h4 c hc').1
    have le : m1 ≤ N * m1 := Nat.le_mul_of_pos_left m1 n1
    refine ⟨m2 + N * m1 - m1, ?_⟩
    rw [e1, ← oN_add, show m1 + (m2 + N * m1 - m1) = N * m1 + m2 by omega, oN_add, oN_mul n3, ← e2]
  · rintro ⟨m, rfl⟩
    exact (clI_o H1 h hi m).symm
end
