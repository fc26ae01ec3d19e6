/-! below 0: orbits, keys, the order of trials -/
theorem wd_ex {v : Int} (hv : 0 ≤ v) : ∃ Y : Nat, isWd v Y := by
  obtain ⟨m, m1, m2, m3⟩ := least_of (P := fun m : Nat => v < ((m : Int) + 1) * ((m : Int) + 1)) v.toNat (by
    have e : ((v.toNat : Nat) : Int) = v := Int.toNat_of_nonneg hv
    rw [e]
    have : (v + 1) * (v + 1) = v * v + 2 * v + 1 := by grind
    have := sqn v
    omega)
  refine ⟨m, by omega, ?_, m2⟩
  rcases Nat.eq_zero_or_pos m with z | z
  · subst z
    simp
    exact hv
  · have := m3 (m - 1) (by omega)
    rw [show ((m - 1 : Nat) : Int) + 1 = (m : Int) by omega] at this
    omega
section
variable {F : Fm} {d t u : Int}
theorem inO_ev (hD : dF F = d) (hp : t * t - d * (u * u) = 4) {z v : xI} (h : inO F t u z v) : evF F v.1 v.2 = evF F z.1 z.2 := by
  have tr : ∀ y : xI, evF F (trn y).1 (trn y).2 = evF F y.1 y.2 := by
    intro y
    rcases trn_or y with e | e <;> rw [e]
    unfold evF
    grind
  rcases h with q | q | q <;> rw [q, tr]
  · rw [au_ev hD hp]
  · rw [au_ev hD hp, au_ev hD hp]
theorem inO_trn (hD : dF F = d) (hp : t * t - d * (u * u) = 4) {z : xI} (hz : z ≠ (0, 0)) (w : xI) : inO F t u (trn z) w ↔ inO F t u z w := by
  rcases trn_or z with e | e <;> rw [e]
  exact inO_neg hD hp hz w
theorem inO_mem (hd : d < 0) (hdd : isDd d) (hD : dF F = d) (h : unN d t u) {z v : xI} (hz : z ≠ (0, 0)) (hv : inO F t u z v) (w : xI) : inO F t u v w ↔ inO F t u z w := by
  have hp := unN_pell h
  have hdV := auM_det (f := F) hD hp
  have z1 := mv_ne hdV hz
  have z2 := mv_ne hdV z1
  rcases hv with q | q | q <;> rw [q]
  · exact inO_trn hD hp hz w
  · rw [inO_trn hD hp z1]
    exact inO_V hd hdd hD h hz w
  · rw [inO_trn hD hp z2, inO_V hd hdd hD h z1]
    exact inO_V hd hdd hD h hz w
theorem bsO_congr {z z' w : xI} (h : ∀ v, inO F t u z v ↔ inO F t u z' v) (hb : bsO F t u z w) : bsO F t u z' w := ⟨(h w).1 hb.1, fun v hv => hb.2 v ((h v).2 hv)⟩
/-- a member of an orbit has a matrix too -/
theorem inO_mat (hD : dF F = d) (hp : t * t - d * (u * u) = 4) {N : mxI} (hN : dM N = 1) {g : Int} {v : xI} (hv : inO F t u (N.1 * g, N.2.2.1 * g) v) : ∃ N' : mxI, dM N' = 1 ∧ acM F N' = acM F N ∧ v = (g * N'.1, g * N'.2.2.1) := by
  have hdV := auM_det (f := F) hD hp
  have hac := auM_ac (f := F) hD hp
  have sg : ∀ N' : mxI, dM N' = 1 → acM F N' = acM F N → ∀ v : xI, v = trn (N'.1 * g, N'.2.2.1 * g) → ∃ N' : mxI, dM N' = 1 ∧ acM F N' = acM F N ∧ v = (g * N'.1, g * N'.2.2.1) := by
    intro N' h1 h2 v hv
    rcases trn_or (N'.1 * g, N'.2.2.1 * g) with e | e
    · refine ⟨N', h1, h2, ?_⟩
      rw [hv, e, Int.mul_comm, Int.mul_comm N'.2.2.1]
    · refine ⟨sgM (-1) N', ?_, ?_, ?_⟩
      · unfold dM at h1 ⊢
        simp only [sgM]
        rw [← h1]
        grind
      · rw [← h2]
        have : acM F (sgM (-1) N') = acF F (-N'.1) (-N'.2.1) (-N'.2.2.1) (-N'.2.2.2) := by
          show acF F (-1 * N'.1) (-1 * N'.2.1) (-1 * N'.2.2.1) (-1 * N'.2.2.2) = _
          rw [Int.neg_one_mul, Int.neg_one_mul, Int.neg_one_mul, Int.neg_one_mul]
        rw [this, acF_neg]
        rfl
      · rw [hv, e]
        refine Prod.ext ?_ ?_ <;> (simp only [sgM]; grind)
  have stp : ∀ M : mxI, mv (auM F t u) (M.1 * g, M.2.2.1 * g) = ((mm (auM F t u) M).1 * g, (mm (auM F t u) M).2.2.1 * g) := by
    intro M
    refine Prod.ext ?_ ?_ <;> (simp only [mv, mm]; grind)
  have d1 : dM (mm (auM F t u) N) = 1 := by rw [dM_mm, hdV, hN]; rfl
  have a1 : acM F (mm (auM F t u) N) = acM F N := by rw [acM_mm, hac]
  rcases hv with q | q | q
  · exact sg N hN rfl v q
  · rw [stp] at q
    exact sg _ d1 a1 v q
  · rw [stp, stp] at q
    exact sg _ (by rw [dM_mm, hdV, d1]; rfl) (by rw [acM_mm, hac, a1]) v q
end
/-- trials come in their order -/
def ltT (a b : Tr) : Prop := ltK (a.1, a.2.1) (b.1, b.2.1)
theorem tr_asc (d w x : Int) : ∀ m, (trA d w x m).Pairwise ltT
  | 0 => List.Pairwise.nil
  | m + 1 => by
    show (trA d w x m ++ trS d w x (m + 1)).Pairwise ltT
    rw [List.pairwise_append]
    refine ⟨tr_asc d w x m, ?_, fun a ha b hb => ?_⟩
    · unfold trS
      split
      · unfold trB
        rw [List.pairwise_map]
        refine List.Pairwise.imp ?_ ((List.pairwise_lt_range.filter _).filter _)
        intro a b hab
        exact Or.inr ⟨rfl, by show (a : Int) < (b : Int); omega⟩
      · exact List.Pairwise.nil
    · obtain ⟨g, b', g1, -, rfl⟩ := (trA_mem m).1 ha
      left
      unfold trS at hb
      split at hb
      · unfold trB at hb
        obtain ⟨c, -, rfl⟩ := List.mem_map.1 hb
        show ((g : Nat) : Int) < ((m + 1 : Nat) : Int)
        omega
      · cases hb
theorem ltK_irr (a b : pI) (h : ltK a b) (h' : ltK b a) : False := by
  unfold ltK at h h'
  omega
def ltFm (a b : Fam) : Prop := ltK (a.1, a.2.1) (b.1, b.2.1)
theorem ltFm_irr (a b : Fam) (h : ltFm a b) (h' : ltFm b a) : False := ltK_irr _ _ h h'
