/-! below 0: what the house finds -/
section
variable {d w : Int} {n : Nat} {A : Nat → pI} {nxt : Nat → Nat} {cls : Nat → Int} {cnt : Nat} {nm : Nat → Nat}
theorem big_n6 : (1267650600228229401496703205376 : Nat) < 4294967296 ^ 1024 := by decide +kernel
/-- all solutions are small -/
theorem solN_bd {F : Fm} {d : Int} (hd : d < 0) (hV : Vld d F) (ho : cfB F 1073741824) {z : xI} {x : Int} (hx : inQ x) (h : evF F z.1 z.2 = x) : z.1.natAbs ≤ 134217728 ∧ z.2.natAbs ≤ 134217728 := by
  have pa := hV.2.2 hd
  have pc : 0 < F.2.2 := by
    have := def_pos hd hV.1 pa (x := 0) (y := 1) (Or.inr (by decide))
    unfold evF at this
    omega
  obtain ⟨h1, h2, -, -⟩ := pos_bd hd hV.1 pa pc h
  obtain ⟨x0, x1, x2⟩ := hx
  obtain ⟨o1, o2, o3⟩ := ho
  have xp : 0 < x := by
    rw [← h]
    refine def_pos hd hV.1 pa ?_
    by_cases c : z.1 = 0
    · right
      intro c2
      rw [c, c2] at h
      have : evF F 0 0 = 0 := by unfold evF; grind
      omega
    · exact Or.inl c
  have b1 : 4 * F.1 * x ≤ 4 * 1073741824 * 1000000 := Int.mul_le_mul (by omega) x2 (by omega) (by decide)
  have b2 : 4 * F.2.2 * x ≤ 4 * 1073741824 * 1000000 := Int.mul_le_mul (by omega) x2 (by omega) (by decide)
  refine ⟨abs_le_of_sq ?_, abs_le_of_sq ?_⟩
  · refine Int.le_trans h2 (Int.le_trans b2 ?_)
    decide
  · refine Int.le_trans h1 (Int.le_trans b1 ?_)
    decide
/-- the house's search ends at the best of the orbit -/
theorem houseN (hd : d < 0) (hdd : isDd d) {F : Fm} (hV : Vld d F) (ho : cfB F 1073741824) {t u : Int} (hun : unN d t u) (hu : isUu d t u) {z : xI} {x : Int} (hx : inQ x) (h : evF F z.1 z.2 = x) : ∃ n n' w', mvT (auM F t u).1 (auM F t u).2.1 (auM F t u).2.2.1 (auM F t u).2.2.2 n (trn z) ∧ mvT (auM F t u).2.2.2 (-(auM F t u).2.1) (-(auM F t u).2.2.1) (auM F t u).1 n' (itQ (auM F t u).1 (auM F t u).2.1 (auM F t u).2.2.1 (auM F t u).2.2.2 n (trn z)) ∧ w' = itQ (auM F t u).2.2.2 (-(auM F t u).2.1) (-(auM F t u).2.2.1) (auM F t u).1 n' (itQ (auM F t u).1 (auM F t u).2.1 (auM F t u).2.2.1 (auM F t u).2.2.2 n (trn z)) ∧ bsO F t u z w' := by
  have hp := unN_pell hun
  have hdV := auM_det (f := F) hV.1 hp
  have hiv : dM (ivM (auM F t u)) = 1 := by rw [dM_iv]; exact hdV
  have z0 := ne_of_ev hx.1 h
  have z1 := mv_ne hdV z0
  have z2 := mv_ne hdV z1
  have ev1 : evF F (mv (auM F t u) z).1 (mv (auM F t u) z).2 = x := (au_ev hV.1 hp z).trans h
  have ev2 : evF F (mv (auM F t u) (mv (auM F t u) z)).1 (mv (auM F t u) (mv (auM F t u) z)).2 = x := (au_ev hV.1 hp _).trans ev1
  have tt : (3 : Nat) = 3 := rfl
  have ht2 : t ≤ 2 := by
    obtain ⟨h1, -⟩ := hun
    rw [h1]
    split
    · decide
    · split <;> decide
  have hvb : bdE (auM F t u) (2147483648 * (t + 1).toNat) := au_bdE hV.1 hu (Int.toNat_of_nonneg (by have := hu.2.1; omega)) ho
  have hvb' : bdE (auM F t u) 6442450944 := by
    obtain ⟨v1, v2, v3, v4⟩ := hvb
    refine ⟨by omega, by omega, by omega, by omega⟩
  -- bounds
  have bq : ∀ y : xI, evF F y.1 y.2 = x → bdQ (auM F t u).1 (auM F t u).2.1 (auM F t u).2.2.1 (auM F t u).2.2.2 (trn y) ∧ bdQ (auM F t u).2.2.2 (-(auM F t u).2.1) (-(auM F t u).2.2.1) (auM F t u).1 (trn y) := by
    intro y hy
    obtain ⟨s1, s2⟩ := solN_bd hd hV ho hx hy
    obtain ⟨a1, a2⟩ := trn_abs y
    rw [← a1] at s1
    rw [← a2] at s2
    obtain ⟨v1, v2, v3, v4⟩ := hvb'
    generalize auM F t u = V at *
    generalize trn y = o at *
    have pr : ∀ p q : Int, p.natAbs ≤ 6442450944 → q.natAbs ≤ 134217728 → (p * q).natAbs ≤ 864691128455135232 := by
      intro p q hp hq
      rw [Int.natAbs_mul]
      exact Nat.le_trans (Nat.mul_le_mul hp hq) (by decide)
    have b6 := big_n6
    unfold bdQ
    generalize (4294967296 ^ 1024 : Nat) = BB at *
    have n2 : (-V.2.1).natAbs ≤ 6442450944 := by omega
    have n3 : (-V.2.2.1).natAbs ≤ 6442450944 := by omega
    have p1 := pr _ _ v1 s1
    have p2 := pr _ _ v2 s2
    have p3 := pr _ _ v3 s1
    have p4 := pr _ _ v4 s2
    have p5 := pr _ _ v4 s1
    have p6 := pr _ _ n2 s2
    have p7 := pr _ _ n3 s1
    have p8 := pr _ _ v1 s2
    refine ⟨⟨by omega, by omega⟩, ⟨by omega, by omega⟩⟩
  have fw : ∀ y : xI, y ≠ (0, 0) → stQ (auM F t u).1 (auM F t u).2.1 (auM F t u).2.2.1 (auM F t u).2.2.2 (trn y) = trn (mv (auM F t u) y) := fun y hy => st_trn hdV hy
  have bw : ∀ y : xI, y ≠ (0, 0) → stQ (auM F t u).2.2.2 (-(auM F t u).2.1) (-(auM F t u).2.2.1) (auM F t u).1 (trn (mv (auM F t u) y)) = trn y := fun y hy => by
    have := st_trn hiv (mv_ne hdV hy)
    rw [← mv_mm, iv_mm hdV, mv_one] at this
    exact this
  have hc : d = -3 ∨ d = -4 ∨ d < -4 := by
    unfold isDd at hdd
    omega
  have three : (mv (auM F t u) (mv (auM F t u) (mv (auM F t u) z)) = (-z.1, -z.2) ∨ mv (auM F t u) z = z) → ∃ n n' w', mvT (auM F t u).1 (auM F t u).2.1 (auM F t u).2.2.1 (auM F t u).2.2.2 n (trn z) ∧ mvT (auM F t u).2.2.2 (-(auM F t u).2.1) (-(auM F t u).2.2.1) (auM F t u).1 n' (itQ (auM F t u).1 (auM F t u).2.1 (auM F t u).2.2.1 (auM F t u).2.2.2 n (trn z)) ∧ w' = itQ (auM F t u).2.2.2 (-(auM F t u).2.1) (-(auM F t u).2.2.1) (auM F t u).1 n' (itQ (auM F t u).1 (auM F t u).2.1 (auM F t u).2.2.1 (auM F t u).2.2.2 n (trn z)) ∧ bsO F t u z w' := by
    intro hv
    have cyc : trn (mv (auM F t u) (mv (auM F t u) (mv (auM F t u) z))) = trn z := by
      rcases hv with q | q
      · rw [q, trn_neg z0]
      · rw [q, q, q]
    have b1 : stQ (auM F t u).2.2.2 (-(auM F t u).2.1) (-(auM F t u).2.2.1) (auM F t u).1 (trn z) = trn (mv (auM F t u) (mv (auM F t u) z)) := by
      have := bw _ z2
      rw [cyc] at this
      exact this
    obtain ⟨n, n', z', s1, s2, s3, s4, s5, s6, s7⟩ := stop3 (fw z z0) (fw _ z1) ((fw _ z2).trans cyc) b1 (bw _ z1) (bw _ z0) (fun y hy => by
      rcases hy with rfl | rfl | rfl
      · exact bq _ h
      · exact bq _ ev1
      · exact bq _ ev2)
    refine ⟨n, n', z', s1, s2, s3, s4, ?_⟩
    rintro v (q | q | q) <;> rw [q]
    · exact s5
    · exact s6
    · exact s7
  rcases hc with c | c | c
  · subst c
    exact three (Or.inl (au_d3 hV.1 hun z))
  · subst c
    have e4 := au_d4 hV.1 hun z
    have cyc : trn (mv (auM F t u) (mv (auM F t u) z)) = trn z := by rw [e4, trn_neg z0]
    have b1 : stQ (auM F t u).2.2.2 (-(auM F t u).2.1) (-(auM F t u).2.2.1) (auM F t u).1 (trn z) = trn (mv (auM F t u) z) := by
      have := bw _ z1
      rw [cyc] at this
      exact this
    obtain ⟨n, n', z', s1, s2, s3, s4, s5, s6⟩ := stop2 (fw z z0) ((fw _ z1).trans cyc) b1 (bw _ z0) (fun y hy => by
      rcases hy with rfl | rfl
      · exact bq _ h
      · exact bq _ ev1)
    refine ⟨n, n', z', s1, s2, s3, ?_, ?_⟩
    · rcases s4 with q | q
      · exact Or.inl q
      · exact Or.inr (Or.inl q)
    · rintro v (q | q | q) <;> rw [q]
      · exact s5
      · exact s6
      · rw [cyc]
        exact s5
  · refine three (Or.inr ?_)
    rw [au_d5 c hun, mv_one]
end
