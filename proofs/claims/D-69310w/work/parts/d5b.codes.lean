/-! at most 384 classes of order two; odd primes of a discriminant -/
def msk : List Nat → Int → Nat
  | [], _ => 0
  | p :: t, A => (if A % (p : Int) = 0 then 1 else 0) + 2 * msk t A
theorem msk_lt : ∀ (ps : List Nat) (A : Int), msk ps A < 2 ^ ps.length
  | [], _ => Nat.one_pos
  | p :: t, A => by
    have := msk_lt t A
    show (if A % (p : Int) = 0 then 1 else 0) + 2 * msk t A < 2 ^ t.length * 2
    split <;> omega
theorem msk_inj : ∀ (ps : List Nat) {A A' : Int}, msk ps A = msk ps A' → ∀ p, p ∈ ps → ((p : Int) ∣ A ↔ (p : Int) ∣ A')
  | [], _, _, _, p, h => by cases h
  | q :: t, A, A', e, p, h => by
    have e' : (if A % (q : Int) = 0 then 1 else 0) + 2 * msk t A = (if A' % (q : Int) = 0 then 1 else 0) + 2 * msk t A' := e
    have e2 : msk t A = msk t A' ∧ (A % (q : Int) = 0 ↔ A' % (q : Int) = 0) := by
      by_cases c1 : A % (q : Int) = 0
      · by_cases c2 : A' % (q : Int) = 0
        · rw [if_pos c1, if_pos c2] at e'
          exact ⟨by omega, iff_of_true c1 c2⟩
        · rw [if_pos c1, if_neg c2] at e'
          omega
      · by_cases c2 : A' % (q : Int) = 0
        · rw [if_neg c1, if_pos c2] at e'
          omega
        · rw [if_neg c1, if_neg c2] at e'
          exact ⟨by omega, iff_of_false c1 c2⟩
    rcases List.mem_cons.1 h with rfl | h
    · rw [Int.dvd_iff_emod_eq_zero, Int.dvd_iff_emod_eq_zero]
      exact e2.2
    · exact msk_inj t e2.1 p h
def cdT (k : Bool) (A : Int) : Nat := bif k then 2 + (if 0 < A then 2 else 0) + (if A % 8 = 0 then 1 else 0) else (A % 2).toNat
theorem cdT_f (A : Int) : cdT false A = (A % 2).toNat := rfl
theorem cdT_t (A : Int) : cdT true A = 2 + (if 0 < A then 2 else 0) + (if A % 8 = 0 then 1 else 0) := rfl
theorem cdT_lt (k : Bool) (A : Int) : cdT k A < 6 ∧ (cdT k A < 2 ↔ k = false) := by
  cases k with
  | false =>
    rw [cdT_f]
    exact ⟨by omega, ⟨fun _ => rfl, fun _ => by omega⟩⟩
  | true =>
    rw [cdT_t]
    refine ⟨?_, ⟨fun h => ?_, fun h => by cases h⟩⟩
    · split <;> split <;> omega
    · exfalso
      revert h
      split <;> split <;> omega
def amF (z : Bool × Int × Int) : Fm := (z.2.1, bif z.1 then z.2.1 else 0, z.2.2)
theorem amF_inj {d : Int} (hn : nsq d) {ps : List Nat} (hps : isOP d.natAbs ps) {z z' : Bool × Int × Int} (hV : Vld d (amF z)) (hV' : Vld d (amF z')) (h0 : z.1 = false → 0 < z.2.1) (h0' : z'.1 = false → 0 < z'.2.1) (ht : cdT z.1 z.2.1 = cdT z'.1 z'.2.1) (hm : msk ps z.2.1 = msk ps z'.2.1) : z = z' := by
  obtain ⟨k, A, C⟩ := z
  obtain ⟨k', A', C'⟩ := z'
  simp only at h0 h0' ht hm
  have ek : k = k' := by
    have t1 := (cdT_lt k A).2
    have t2 := (cdT_lt k' A').2
    rw [ht] at t1
    cases k <;> cases k'
    · rfl
    · exact absurd (t2.1 (t1.2 rfl)) (by decide)
    · exact absurd (t1.1 (t2.2 rfl)) (by decide)
    · rfl
  subst ek
  have hA : A ≠ 0 := vld_1 hn hV
  have hA' : A' ≠ 0 := vld_1 hn hV'
  have d0 : d.natAbs ≠ 0 := fun q => hn 0 (by rw [Int.natAbs_eq_zero.1 q]; rfl)
  have hs : A ∣ d → A' ∣ d → ∀ p, Pr p → p % 2 = 1 → ((p : Int) ∣ A ↔ (p : Int) ∣ A') := by
    intro hd hd' p p1 p2
    constructor
    · intro h
      exact (msk_inj ps hm p (hps.2.2 p p1 p2 (Int.ofNat_dvd_left.1 (Int.dvd_trans h hd)))).1 h
    · intro h
      exact (msk_inj ps hm p (hps.2.2 p p1 p2 (Int.ofNat_dvd_left.1 (Int.dvd_trans h hd')))).2 h
  obtain ⟨u, v, w, e1⟩ := hV.2.1
  obtain ⟨u', v', w', e1'⟩ := hV'.2.1
  cases k with
  | false =>
    have D : 0 * 0 - 4 * A * C = d := hV.1
    have D' : 0 * 0 - 4 * A' * C' = d := hV'.1
    have c1 : ∃ u v : Int, u * A + v * C = 1 := ⟨u, w, by
      have : u * A + v * 0 + w * C = 1 := e1
      rw [Int.mul_zero] at this
      omega⟩
    have c2 : ∃ u v : Int, u * A' + v * C' = 1 := ⟨u', w', by
      have : u' * A' + v' * 0 + w' * C' = 1 := e1'
      rw [Int.mul_zero] at this
      omega⟩
    have m1 : 4 * A * C = 4 * (A * C) := by grind
    have m2 : 4 * A' * C' = 4 * (A' * C') := by grind
    have hd : A ∣ d := ⟨-4 * C, by rw [← D]; grind⟩
    have hd' : A' ∣ d := ⟨-4 * C', by rw [← D']; grind⟩
    rw [cdT_f, cdT_f] at ht
    have eA := amb_inj0 (h0 rfl) (h0' rfl) (by omega) c1 c2 (by omega) (hs hd hd')
    subst eA
    have eC : C = C' := Int.eq_of_mul_eq_mul_left hA (by omega)
    rw [eC]
  | true =>
    have D : A * A - 4 * A * C = d := hV.1
    have D' : A' * A' - 4 * A' * C' = d := hV'.1
    have c1 : ∃ u v : Int, u * A + v * C = 1 := ⟨u + v, w, by
      have : u * A + v * A + w * C = 1 := e1
      rw [← this]
      grind⟩
    have c2 : ∃ u v : Int, u * A' + v * C' = 1 := ⟨u' + v', w', by
      have : u' * A' + v' * A' + w' * C' = 1 := e1'
      rw [← this]
      grind⟩
    have m1 : A * (A - 4 * C) = d := by rw [← D]; grind
    have m2 : A' * (A' - 4 * C') = d := by rw [← D']; grind
    have hd : A ∣ d := ⟨_, m1.symm⟩
    have hd' : A' ∣ d := ⟨_, m2.symm⟩
    rw [cdT_t, cdT_t] at ht
    have t1 : (0 < A ↔ 0 < A') ∧ (A % 8 = 0 ↔ A' % 8 = 0) := by
      revert ht
      split <;> split <;> split <;> split <;> intro ht <;> omega
    have eA := amb_inj1 hA hA' t1.1 (m1.trans m2.symm) c1 c2 (by omega) (hs hd hd')
    subst eA
    have e3 := Int.eq_of_mul_eq_mul_left hA (m1.trans m2.symm)
    have eC : C = C' := by omega
    rw [eC]
section
variable {d w : Int} {n : Nat} {A : Nat → pI} {nxt : Nat → Nat} {cls : Nat → Int} {cnt : Nat} {nm : Nat → Nat}
theorem amb_ex (T : isTF d w n A nxt cls cnt nm) {x : Fin cnt} (hx : pw (mulC T) (oneC T) x 2 = oneC T) : ∃ z : Bool × Int × Int, Eqv (nmF d A nm x.val) (amF z) ∧ (z.1 = false → 0 < z.2.1) := by
  have G := gpC T
  have hV := tf_vld T x.isLt
  obtain ⟨c, c1, c2⟩ := tf_of T (inv_vld hV)
  have i1 : mulC T x ⟨c, c1⟩ = oneC T := invC T c2
  have i2 : mulC T x x = oneC T := by
    have : pw (mulC T) (oneC T) x 2 = mulC T (pw (mulC T) (oneC T) x 1) x := rfl
    rw [this, pw_one G] at hx
    exact hx
  have e : (⟨c, c1⟩ : Fin cnt) = x := gp_cancel G (i1.trans i2.symm)
  have e2 : c = x.val := congrArg Fin.val e
  rw [e2] at c2
  obtain ⟨a, c', h | h⟩ := amb_form T.1.1 hV (eqv_symm c2)
  · exact ⟨(false, a, c'), h.1, fun _ => h.2⟩
  · exact ⟨(true, a, c'), h, fun q => by cases q⟩
theorem amb_cnt (T : isTF d w n A nxt cls cnt nm) {ps : List Nat} (hps : isOP d.natAbs ps) (hl : ps.length ≤ 6) {L : List (Fin cnt)} (hnd : L.Nodup) (h2 : ∀ x, x ∈ L → pw (mulC T) (oneC T) x 2 = oneC T) : L.length ≤ 384 := by
  have h' : ∀ x : Fin cnt, ∃ z : Bool × Int × Int, x ∈ L → Eqv (nmF d A nm x.val) (amF z) ∧ (z.1 = false → 0 < z.2.1) := by
    intro x
    by_cases c : x ∈ L
    · obtain ⟨z, hz⟩ := amb_ex T (h2 x c)
      exact ⟨z, fun _ => hz⟩
    · exact ⟨(false, 0, 0), fun q => (c q).elim⟩
  obtain ⟨z, hz⟩ := Classical.axiomOfChoice h'
  have mlt : ∀ x : Fin cnt, msk ps (z x).2.1 < 64 := fun x => Nat.lt_of_lt_of_le (msk_lt ps _) (Nat.pow_le_pow_right (n := 2) (by decide) hl)
  have := len_sub (L.map (fun x => cdT (z x).1 (z x).2.1 * 64 + msk ps (z x).2.1)) (List.range 384) (by
    rw [List.Nodup, List.pairwise_map]
    refine List.Pairwise.imp_of_mem ?_ hnd
    intro x y hx hy hne e
    have a1 := mlt x
    have a2 := mlt y
    obtain ⟨x1, x2⟩ := hz x hx
    obtain ⟨y1, y2⟩ := hz y hy
    have ez := amF_inj T.1.1 hps (vld_eqv x1 (tf_vld T x.isLt)) (vld_eqv y1 (tf_vld T y.isLt)) x2 y2 (by omega) (by omega)
    rw [ez] at x1
    exact hne (Fin.ext (tf_uniq T x.isLt y.isLt (eqv_symm x1) (eqv_symm y1)))) (fun m hm => by
    obtain ⟨x, hx, rfl⟩ := List.mem_map.1 hm
    have a1 := mlt x
    have a2 := (cdT_lt (z x).1 (z x).2.1).1
    exact List.mem_range.2 (by omega))
  rwa [List.length_map, List.length_range] at this
end
/-- the odd primes of a number -/
def lbN : Nat → Nat → Nat
  | _, 0 => 1
  | k, m + 1 => (2 * k + 3) * lbN (k + 1) m
theorem lbN_up : ∀ (m k : Nat), lbN k m ≤ lbN k (m + 1)
  | 0, k => by
    show 1 ≤ (2 * k + 3) * 1
    omega
  | m + 1, k => Nat.mul_le_mul_left _ (lbN_up m (k + 1))
theorem lbN_mono (k m : Nat) : ∀ j, lbN k m ≤ lbN k (m + j)
  | 0 => Nat.le_refl _
  | j + 1 => Nat.le_trans (lbN_mono k m j) (lbN_up (m + j) k)
theorem lb_prod : ∀ (ps : List Nat) (k : Nat), ps.Pairwise (· < ·) → (∀ p, p ∈ ps → p % 2 = 1 ∧ 2 * k + 3 ≤ p) → lbN k ps.length ≤ prodL ps
  | [], _, _, _ => Nat.le_refl _
  | p :: t, k, h, hp => by
    obtain ⟨h1, h2⟩ := List.pairwise_cons.1 h
    have hp0 := hp p (List.mem_cons_self ..)
    refine Nat.mul_le_mul hp0.2 (lb_prod t (k + 1) h2 (fun q hq => ?_))
    have a := h1 q hq
    have b := hp q (List.mem_cons_of_mem _ hq)
    exact ⟨b.1, by omega⟩
theorem prodL_dv {D : Nat} : ∀ ps : List Nat, ps.Pairwise (· < ·) → (∀ p, p ∈ ps → Pr p ∧ p % 2 = 1 ∧ p ∣ D) → prodL ps ∣ D
  | [], _, _ => Nat.one_dvd _
  | p :: t, h, hp => by
    obtain ⟨h1, h2⟩ := List.pairwise_cons.1 h
    have hp0 := hp p (List.mem_cons_self ..)
    have hpt : ∀ q, q ∈ t → Pr q ∧ q % 2 = 1 ∧ q ∣ D := fun q hq => hp q (List.mem_cons_of_mem _ hq)
    have ih := prodL_dv t h2 hpt
    have nd : ¬ p ∣ prodL t := fun z => by
      have := pr_prodL hp0.1 t (fun q hq => ⟨(hpt q hq).1, (hpt q hq).2.1⟩) z
      exact Nat.lt_irrefl _ (h1 p this)
    exact Nat.Coprime.mul_dvd_of_dvd_of_dvd (pr_cop hp0.1 nd) hp0.2.2 ih
theorem op_ex {D : Nat} (h0 : 0 < D) (hD : D ≤ 1048576) : ∃ ps, isOP D ps ∧ ps.length ≤ 6 := by
  have hb : ∀ p : Nat, ∃ b : Bool, b = true ↔ (Pr p ∧ p % 2 = 1 ∧ p ∣ D) := by
    intro p
    by_cases c : Pr p ∧ p % 2 = 1 ∧ p ∣ D
    · exact ⟨true, iff_of_true rfl c⟩
    · exact ⟨false, iff_of_false (by decide) c⟩
  obtain ⟨b, hb⟩ := Classical.axiomOfChoice hb
  have pw : ((List.range (D + 1)).filter b).Pairwise (· < ·) := List.pairwise_lt_range.filter _
  have hm : ∀ p, p ∈ (List.range (D + 1)).filter b ↔ (Pr p ∧ p % 2 = 1 ∧ p ∣ D) := by
    intro p
    rw [List.mem_filter, hb p, List.mem_range]
    refine ⟨fun h => h.2, fun h => ⟨?_, h⟩⟩
    have := Nat.le_of_dvd h0 h.2.2
    omega
  refine ⟨(List.range (D + 1)).filter b, ⟨fun p hp => (hm p).1 hp, ?_, fun p p1 p2 p3 => (hm p).2 ⟨p1, p2, p3⟩⟩, ?_⟩
  · intro i j p q hij hp hq
    obtain ⟨i1, rfl⟩ := List.getElem?_eq_some_iff.1 hp
    obtain ⟨j1, rfl⟩ := List.getElem?_eq_some_iff.1 hq
    exact List.pairwise_iff_getElem.1 pw i j i1 j1 hij
  · rcases Nat.lt_or_ge 6 ((List.range (D + 1)).filter b).length with z | z
    · exfalso
      have l1 := lb_prod _ 0 pw (fun p hp => by
        have := (hm p).1 hp
        exact ⟨this.2.1, by have := this.1.1; omega⟩)
      have l2 := Nat.le_of_dvd h0 (prodL_dv _ pw (fun p hp => (hm p).1 hp))
      have l3 := lbN_mono 0 7 (((List.range (D + 1)).filter b).length - 7)
      rw [show 7 + (((List.range (D + 1)).filter b).length - 7) = ((List.range (D + 1)).filter b).length by omega] at l3
      have l4 : lbN 0 7 = 2027025 := by decide
      omega
    · exact z
