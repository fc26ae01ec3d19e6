/-! the model's rows as matrices, and their sizes -/
theorem bk_mv (k : Int) (z : zI) : bkZ k z = mv (sM k) z := by
  refine Prod.ext ?_ ?_ <;> (simp only [bkZ, mv, sM]; grind)
theorem on_mv (k : Int) (z : zI) : onZ k z = mv (ivM (sM k)) z := by
  refine Prod.ext ?_ ?_ <;> (simp only [onZ, mv, sM, ivM]; grind)
theorem abk_mv (d w : Int) (F : Fm) : ∀ (m : Nat) (z : zI), abk (tnF d w F) m z = mv (itM d w m F I2) z
  | 0, z => (mv_one z).symm
  | m + 1, z => by
    show abk (tnF d w F) m (bkZ (tnF d w F m) z) = _
    rw [abk_mv d w F m, bk_mv, ← mv_mm, itM_suc, stM_mm]
/-- walking, by multipliers -/
def wkZ : Nat → (Nat → Int) → zI → zI
  | 0, _, z => z
  | m + 1, kk, z => wkZ m (fun i => kk (i + 1)) (bkZ (kk 0) z)
def mxZ (z : zI) : Nat := max z.1.natAbs z.2.natAbs
theorem alt_up {k x y : Int} {B : Nat} (hS : 0 ≤ k * (x * y)) (hB : mxZ (-y, k * y + x) ≤ B) (hk : k ≠ 0) : mxZ (x, y) ≤ B := by
  unfold mxZ at *
  simp only at *
  have e : (k * y + x).natAbs = k.natAbs * y.natAbs + x.natAbs := by
    rw [abs_add (by have : k * y * x = k * (x * y) := by grind
                    omega), Int.natAbs_mul]
  have : 1 * y.natAbs ≤ k.natAbs * y.natAbs := Nat.mul_le_mul_right _ (by omega)
  omega
theorem alt_next {k k' x y : Int} (hkk : k * k' < 0) (hS : 0 ≤ k * (x * y)) : 0 ≤ k' * (-y * (k * y + x)) := by
  have e : k * k * (k' * (-y * (k * y + x))) = -(k * k') * (k * k * (y * y)) + -(k * k') * (k * (x * y)) := by grind
  have h1 : 0 ≤ k * k * (y * y) := Int.mul_nonneg (sqn k) (sqn y)
  have h2 : 0 ≤ -(k * k') * (k * k * (y * y)) := Int.mul_nonneg (by omega) h1
  have h3 : 0 ≤ -(k * k') * (k * (x * y)) := Int.mul_nonneg (by omega) hS
  have hk : 0 < k * k := by
    have := sqn k
    have : k * k ≠ 0 := fun z => by
      rcases Int.mul_eq_zero.1 z with z | z <;> (rw [z, Int.zero_mul] at hkk; omega)
    omega
  rcases Int.lt_or_le (k' * (-y * (k * y + x))) 0 with z | z
  · have := Int.mul_neg_of_pos_of_neg hk z
    omega
  · exact z
/-- signs that agree: sizes rise -/
theorem wk_up : ∀ (m : Nat) (kk : Nat → Int) (x y : Int) (B : Nat), (∀ i, kk i * kk (i + 1) < 0) → 0 ≤ kk 0 * (x * y) → mxZ (wkZ m kk (x, y)) ≤ B → mxZ (x, y) ≤ B ∧ ∀ i, i ≤ m → mxZ (wkZ i kk (x, y)) ≤ B
  | 0, kk, x, y, B, _, _, hB => ⟨hB, fun i hi => by
    have : i = 0 := by omega
    subst this
    exact hB⟩
  | m + 1, kk, x, y, B, ha, hS, hB => by
    have k0 : kk 0 ≠ 0 := fun z => by
      have := ha 0
      rw [z, Int.zero_mul] at this
      omega
    obtain ⟨h1, h2⟩ := wk_up m (fun i => kk (i + 1)) (-y) (kk 0 * y + x) B (fun i => ha (i + 1)) (alt_next (ha 0) hS) hB
    have h3 := alt_up hS h1 k0
    refine ⟨h3, fun i hi => ?_⟩
    cases i with
    | zero => exact h3
    | succ i => exact h2 i (by omega)
/-- the greatest size is at an end -/
theorem wk_conv : ∀ (m : Nat) (kk : Nat → Int) (x y : Int) (B : Nat), (∀ i, kk i * kk (i + 1) < 0) → mxZ (x, y) ≤ B → mxZ (wkZ m kk (x, y)) ≤ B → ∀ i, i ≤ m → mxZ (wkZ i kk (x, y)) ≤ B
  | 0, kk, x, y, B, _, h0, _, i, hi => by
    have : i = 0 := by omega
    subst this
    exact h0
  | m + 1, kk, x, y, B, ha, h0, hB, i, hi => by
    rcases Int.lt_or_le (kk 0 * (x * y)) 0 with hS | hS
    · cases i with
      | zero => exact h0
      | succ i =>
        -- the next pair
        rcases Int.lt_or_le (kk 1 * (-y * (kk 0 * y + x))) 0 with hS1 | hS1
        · refine wk_conv m (fun i => kk (i + 1)) (-y) (kk 0 * y + x) B (fun i => ha (i + 1)) ?_ hB i (by omega)
          -- x = y' + k x', sizes add
          have e1 : x = (kk 0 * y + x) + kk 0 * (-y) := by grind
          have hs : 0 ≤ (kk 0 * y + x) * (kk 0 * (-y)) := by
            have e2 : kk 1 * kk 1 * ((kk 0 * y + x) * (kk 0 * (-y))) = (kk 0 * kk 1) * (kk 1 * (-y * (kk 0 * y + x))) := by grind
            have h3 : 0 < (kk 0 * kk 1) * (kk 1 * (-y * (kk 0 * y + x))) := Int.mul_pos_of_neg_of_neg (ha 0) hS1
            have h4 := sqn (kk 1)
            rcases Int.lt_or_le ((kk 0 * y + x) * (kk 0 * (-y))) 0 with z | z
            · have := Int.mul_nonpos_of_nonneg_of_nonpos h4 (Int.le_of_lt z)
              omega
            · exact z
          have e3 := abs_add hs
          rw [← e1, Int.natAbs_mul] at e3
          unfold mxZ at h0 ⊢
          simp only at h0 ⊢
          have k0 : kk 0 ≠ 0 := fun z => by
            have := ha 0
            rw [z, Int.zero_mul] at this
            omega
          have : 1 * (-y).natAbs ≤ (kk 0).natAbs * (-y).natAbs := Nat.mul_le_mul_right _ (by omega)
          omega
        · exact (wk_up m (fun i => kk (i + 1)) (-y) (kk 0 * y + x) B (fun i => ha (i + 1)) hS1 hB).2 i (by omega)
    · exact (wk_up (m + 1) kk x y B ha hS hB).2 i hi
section
variable (tn : Nat → Int) (r : Nat)
def bpR : Nat → Nat → Nat
  | 0, a => a
  | i + 1, a => bpR i (pvR r a)
def npR : Nat → Nat → Nat
  | 0, a => a
  | i + 1, a => npR i (nxR r a)
theorem bpR_suc : ∀ i a, bpR r (i + 1) a = pvR r (bpR r i a)
  | 0, _ => rfl
  | i + 1, a => bpR_suc i (pvR r a)
theorem npR_suc : ∀ i a, npR r (i + 1) a = nxR r (npR r i a)
  | 0, _ => rfl
  | i + 1, a => npR_suc i (nxR r a)
theorem bpR_lt (r0 : 0 < r) : ∀ i a, a < r → bpR r i a < r
  | 0, a, h => h
  | i + 1, a, h => bpR_lt r0 i _ (by unfold pvR; split <;> omega)
theorem npR_lt (r0 : 0 < r) : ∀ i a, a < r → npR r i a < r
  | 0, a, h => h
  | i + 1, a, h => npR_lt r0 i _ (by unfold nxR; split <;> omega)
theorem rbk_wk : ∀ (m a : Nat) (z : zI), rbk tn r m a z = wkZ m (fun i => tn (bpR r (i + 1) a)) z
  | 0, _, _ => rfl
  | m + 1, a, z => by
    show rbk tn r m (pvR r a) (bkZ (tn (pvR r a)) z) = wkZ m _ (bkZ (tn (bpR r 1 a)) z)
    rw [rbk_wk m (pvR r a)]
    rfl
theorem rbkB_of {M : Nat} : ∀ (m a : Nat) (z : zI), (∀ i, i ≤ m → bZ M (rbk tn r i a z)) → rbkB M tn r m a z
  | 0, _, z, h => h 0 (Nat.le_refl _)
  | m + 1, a, z, h => ⟨h 0 (by omega), rbkB_of m (pvR r a) _ (fun i hi => h (i + 1) (by omega))⟩
theorem ronB_of {M : Nat} : ∀ (m a : Nat) (z : zI), (∀ i, i ≤ m → bZ M (ron tn r i a z)) → ronB M tn r m a z
  | 0, _, z, h => h 0 (Nat.le_refl _)
  | m + 1, a, z, h => ⟨h 0 (by omega), ronB_of m (nxR r a) _ (fun i hi => h (i + 1) (by omega))⟩
/-- going on is going back with the numbers exchanged -/
theorem ron_wk : ∀ (m a : Nat) (z : zI), ((ron tn r m a z).2, (ron tn r m a z).1) = wkZ m (fun i => tn (npR r i a)) (z.2, z.1)
  | 0, _, _ => rfl
  | m + 1, a, z => by
    show ((ron tn r m (nxR r a) (onZ (tn a) z)).2, (ron tn r m (nxR r a) (onZ (tn a) z)).1) = wkZ m (fun i => tn (npR r i (nxR r a))) (bkZ (tn a) (z.2, z.1))
    rw [ron_wk m (nxR r a) (onZ (tn a) z)]
    congr 1
end
theorem bZ_of {M B : Nat} {z : zI} (h : mxZ z ≤ B) (hB : (B : Int) < pB M) : bZ M z := by
  unfold mxZ at h
  unfold bZ
  generalize pB M = P at *
  omega
theorem abkB_of {M : Nat} (an : Nat → Int) : ∀ (m : Nat) (z : zI), bZ M z → (∀ i, i < m → ∀ z' : zI, abk an i z' = abk an m z → bZ M z') → abkB M an m z
  | 0, z, h, _ => h
  | m + 1, z, h, h2 => ⟨h, abkB_of an m (bkZ (an m) z) (h2 m (by omega) _ rfl) (fun i hi z' e => h2 i (by omega) z' e)⟩
section
variable {d w : Int} {g : Fm} {r : Nat}
/-- going back p + j r places -/
theorem rbk_mv (hN : isRn d w g r) : ∀ (p : Nat) (z : zI), p < r → rbk (tnF d w g) r p p z = mv (itM d w p g I2) z
  | 0, z, _ => (mv_one z).symm
  | p + 1, z, hp => by
    show rbk (tnF d w g) r p (pvR r (p + 1)) (bkZ (tnF d w g (pvR r (p + 1))) z) = _
    have e : pvR r (p + 1) = p := by
      unfold pvR
      rw [if_neg (by omega)]
      omega
    rw [e, rbk_mv hN p _ (by omega), bk_mv, ← mv_mm, itM_suc, stM_mm]
theorem rbk_add (tn : Nat → Int) (r : Nat) : ∀ (m k a : Nat) (z : zI), rbk tn r (m + k) a z = rbk tn r k (bpR r m a) (rbk tn r m a z)
  | 0, k, a, z => by rw [Nat.zero_add]; rfl
  | m + 1, k, a, z => by
    rw [show m + 1 + k = (m + k) + 1 by omega]
    show rbk tn r (m + k) (pvR r a) _ = _
    rw [rbk_add tn r m k (pvR r a)]
    rfl
theorem bpR_sub (r : Nat) : ∀ i a, i ≤ a → bpR r i a = a - i
  | 0, a, _ => rfl
  | i + 1, a, h => by
    rw [bpR_suc, bpR_sub r i a (by omega)]
    unfold pvR
    rw [if_neg (by omega)]
    omega
/-- once round, back from the first place -/
theorem rbk_ring (hN : isRn d w g r) (z : zI) : rbk (tnF d w g) r r 0 z = mv (itM d w r g I2) z ∧ bpR r r 0 = 0 := by
  obtain ⟨k, rfl⟩ : ∃ k, r = k + 1 := ⟨r - 1, by have := hN.1; omega⟩
  have e : pvR (k + 1) 0 = k := by
    unfold pvR
    rw [if_pos rfl]
    omega
  constructor
  · show rbk (tnF d w g) (k + 1) k (pvR (k + 1) 0) (bkZ (tnF d w g (pvR (k + 1) 0)) z) = _
    rw [e, rbk_mv hN k _ (by omega), bk_mv, ← mv_mm, itM_suc, stM_mm]
  · show bpR (k + 1) k (pvR (k + 1) 0) = 0
    rw [e, bpR_sub _ k k (Nat.le_refl _)]
    omega
theorem rbk_rings (hN : isRn d w g r) : ∀ (j : Nat) (z : zI), rbk (tnF d w g) r (j * r) 0 z = mv (pwM (itM d w r g I2) j) z ∧ bpR r (j * r) 0 = 0
  | 0, z => by
    rw [Nat.zero_mul]
    exact ⟨(mv_one z).symm, rfl⟩
  | j + 1, z => by
    have e : (j + 1) * r = r + j * r := by rw [Nat.add_mul, Nat.one_mul, Nat.add_comm]
    obtain ⟨a1, a2⟩ := rbk_ring hN z
    obtain ⟨b1, b2⟩ := rbk_rings hN j (mv (itM d w r g I2) z)
    rw [e]
    constructor
    · rw [rbk_add, a2, a1, b1, ← mv_mm, pwM_comm]
      rfl
    · have : ∀ m k a, bpR r (m + k) a = bpR r k (bpR r m a) := by
        intro m
        induction m with
        | zero => intro k a; rw [Nat.zero_add]; rfl
        | succ m ih =>
          intro k a
          rw [show m + 1 + k = (m + k) + 1 by omega]
          exact ih k (pvR r a)
      rw [this, a2]
      exact b2
theorem ron_add (tn : Nat → Int) (r : Nat) : ∀ (m k a : Nat) (z : zI), ron tn r (m + k) a z = ron tn r k (npR r m a) (ron tn r m a z)
  | 0, k, a, z => by rw [Nat.zero_add]; rfl
  | m + 1, k, a, z => by
    rw [show m + 1 + k = (m + k) + 1 by omega]
    show ron tn r (m + k) (nxR r a) _ = _
    rw [ron_add tn r m k (nxR r a)]
    rfl
/-- going on from place p up to the end -/
theorem ron_mv (d w : Int) (g : Fm) (r : Nat) : ∀ (k p : Nat) (z : zI), p + k = r → 0 < k → ron (tnF d w g) r k p z = mv (ivM (itM d w k (itF d w p g) I2)) z ∧ npR r k p = 0
  | 0, p, z, _, h0 => by omega
  | 1, p, z, hp, _ => by
    have e : nxR r p = 0 := by
      unfold nxR
      rw [if_pos hp]
    refine ⟨?_, e⟩
    show onZ (tnF d w g p) z = _
    rw [on_mv]
    have e2 : itM d w 1 (itF d w p g) I2 = sM (tnF d w g p) := by
      show stM (nkE d w (itF d w p g).2.1 (itF d w p g).2.2) I2 = _
      rw [stM_mm, one_mm]
      rfl
    rw [e2]
  | k + 2, p, z, hp, _ => by
    have e : nxR r p = p + 1 := by
      unfold nxR
      rw [if_neg (by omega)]
    obtain ⟨a1, a2⟩ := ron_mv d w g r (k + 1) (p + 1) (onZ (tnF d w g p) z) (by omega) (by omega)
    refine ⟨?_, ?_⟩
    · show ron (tnF d w g) r (k + 1) (nxR r p) (onZ (tnF d w g p) z) = _
      rw [e, a1, on_mv, ← mv_mm, ← iv_mul]
      congr 2
      have e2 : itM d w (k + 2) (itF d w p g) I2 = mm (sM (tnF d w g p)) (itM d w (k + 1) (itF d w (p + 1) g) I2) := by
        show itM d w (k + 1) (nx d w (itF d w p g)) (stM (nkE d w (itF d w p g).2.1 (itF d w p g).2.2) I2) = _
        rw [itM_mm, stM_mm, one_mm, itF_succ]
        rfl
      exact e2.symm
    · show npR r (k + 1) (nxR r p) = 0
      rw [e]
      exact a2
theorem ron_rings (hN : isRn d w g r) : ∀ (j : Nat) (z : zI), ron (tnF d w g) r (j * r) 0 z = mv (pwM (ivM (itM d w r g I2)) j) z ∧ npR r (j * r) 0 = 0
  | 0, z => by
    rw [Nat.zero_mul]
    exact ⟨(mv_one z).symm, rfl⟩
  | j + 1, z => by
    have e : (j + 1) * r = r + j * r := by rw [Nat.add_mul, Nat.one_mul, Nat.add_comm]
    obtain ⟨a1, a2⟩ := ron_mv d w g r r 0 z (by omega) hN.1
    obtain ⟨b1, b2⟩ := ron_rings hN j (mv (ivM (itM d w r g I2)) z)
    rw [e]
    constructor
    · rw [ron_add, a2, a1]
      show ron (tnF d w g) r (j * r) 0 (mv (ivM (itM d w r g I2)) z) = _
      rw [b1, ← mv_mm, pwM_comm]
      rfl
    · have : ∀ m k a, npR r (m + k) a = npR r k (npR r m a) := by
        intro m
        induction m with
        | zero => intro k a; rw [Nat.zero_add]; rfl
        | succ m ih =>
          intro k a
          rw [show m + 1 + k = (m + k) + 1 by omega]
          exact ih k (nxR r a)
      rw [this, a2]
      exact b2
/-- THE MODEL'S ROW: j rings from place p -/
theorem rg_mv (hN : isRn d w g r) {p : Nat} (hp : p < r) (j : Int) (z : zI) : rgZ (tnF d w g) r p j z = mv (mm (zpM (itM d w r g I2) j) (itM d w p g I2)) z := by
  unfold rgZ lfR zpM
  by_cases c : 0 ≤ j
  · rw [if_pos c, if_pos c, if_pos c]
    have e : ((p : Int) + j * r).toNat = p + j.toNat * r := by
      have : ((p + j.toNat * r : Nat) : Int) = (p : Int) + j * r := by
        rw [Int.natCast_add, Int.natCast_mul, Int.toNat_of_nonneg c]
      omega
    rw [e, rbk_add, rbk_mv hN p z hp, bpR_sub r p p (Nat.le_refl _), show p - p = 0 by omega, (rbk_rings hN j.toNat _).1, mv_mm]
  · rw [if_neg c, if_neg c, if_neg c]
    obtain ⟨n, hn⟩ : ∃ n : Nat, (-j).toNat = n + 1 := ⟨(-j).toNat - 1, by omega⟩
    have e : (-j * r - p).toNat = (r - p) + n * r := by
      have h1 : -j = ((n + 1 : Nat) : Int) := by omega
      rw [h1]
      have h2 : ((n + 1 : Nat) : Int) * r = ((n * r + r : Nat) : Int) := by
        rw [← Int.natCast_mul, Nat.add_mul, Nat.one_mul]
      rw [h2]
      omega
    obtain ⟨a1, a2⟩ := ron_mv d w g r (r - p) p z (by omega) (by omega)
    rw [hn, e, ron_add, a2, a1, (ron_rings hN n _).1, ← mv_mm]
    congr 1
    show mm (pwM (ivM (itM d w r g I2)) n) (ivM (itM d w (r - p) (itF d w p g) I2)) = mm (mm (ivM (itM d w r g I2)) (pwM (ivM (itM d w r g I2)) n)) (itM d w p g I2)
    have e2 : itM d w r g I2 = mm (itM d w p g I2) (itM d w (r - p) (itF d w p g) I2) := by
      conv => lhs; rw [show r = p + (r - p) by omega]
      rw [itM_add, itM_mm]
    have e3 : ivM (itM d w (r - p) (itF d w p g) I2) = mm (ivM (itM d w r g I2)) (itM d w p g I2) := by
      conv => rhs; rw [e2]
      rw [iv_mul, mm_assoc, iv_mm (itM_det g p), mm_one]
    rw [e3, ← mm_assoc, pwM_comm]
end
