/-! operations that tell numbers: words, bits, residues -/
theorem pB_2 : ∀ k : Nat, pB (2 * k) = ((4294967296 ^ k : Nat) : Int)
  | 0 => rfl
  | k + 1 => by
    rw [show 2 * (k + 1) = 2 * k + 1 + 1 by omega, pB_s, pB_s, pB_2 k, Nat.pow_succ, Int.natCast_mul, Int.mul_assoc]
    rfl
theorem isBt_u {v : Int} {s s' : Nat} (a : isBt v s) (b : isBt v s') : s = s' := by
  rcases a with ⟨a1, a2⟩ | ⟨a1, a2, a3⟩
  · rcases b with ⟨b1, b2⟩ | ⟨b1, b2, b3⟩
    · omega
    · subst a1
      have := Nat.pow_pos (n := s' - 1) (show 0 < 2 by decide)
      simp only [Int.natAbs_zero] at b2
      omega
  · rcases b with ⟨b1, b2⟩ | ⟨b1, b2, b3⟩
    · subst b1
      have := Nat.pow_pos (n := s - 1) (show 0 < 2 by decide)
      simp only [Int.natAbs_zero] at a2
      omega
    · rcases Nat.lt_trichotomy s s' with z | z | z
      · have := Nat.pow_le_pow_right (show 0 < 2 by decide) (show s ≤ s' - 1 by omega)
        omega
      · exact z
      · have := Nat.pow_le_pow_right (show 0 < 2 by decide) (show s' ≤ s - 1 by omega)
        omega
theorem isBt_ex (v : Int) : ∃ s, isBt v s := by
  by_cases z : v = 0
  · exact ⟨0, Or.inl ⟨z, rfl⟩⟩
  · have h1 : ∀ m n : Nat, n ≤ m → 0 < n → ∃ s, 0 < s ∧ 2 ^ (s - 1) ≤ n ∧ n < 2 ^ s := by
      intro m
      induction m with
      | zero => intro n h1 h2; omega
      | succ m ih =>
        intro n h1 h2
        by_cases y : n = 1
        · exact ⟨1, by decide, by rw [y]; decide, by rw [y]; decide⟩
        · obtain ⟨s, s1, s2, s3⟩ := ih (n / 2) (by omega) (by omega)
          refine ⟨s + 1, by omega, ?_, ?_⟩
          · have e : 2 ^ (s + 1 - 1) = 2 ^ (s - 1) * 2 := by
              rw [← Nat.pow_succ]
              congr 1
              omega
            rw [e]
            omega
          · rw [Nat.pow_succ]
            omega
    obtain ⟨s, hs⟩ := h1 v.natAbs v.natAbs (Nat.le_refl _) (by omega)
    exact ⟨s, Or.inr hs⟩
theorem isBt_neg {v : Int} {s : Nat} (a : isBt v s) : isBt (-v) s := by
  unfold isBt at *
  rw [Int.natAbs_neg]
  omega
theorem bt_of {v : Int} {s : Nat} (h : (v = 0 ∧ s = 0) ∨ (0 < s ∧ (2 : Int) ^ (s - 1) ≤ (v.natAbs : Int) ∧ (v.natAbs : Int) < 2 ^ s)) : isBt v s := by
  rcases h with h | ⟨h1, h2, h3⟩
  · exact Or.inl h
  · have e1 : (2 : Int) ^ (s - 1) = ((2 ^ (s - 1) : Nat) : Int) := (Int.natCast_pow 2 (s - 1)).symm
    have e2 : (2 : Int) ^ s = ((2 ^ s : Nat) : Int) := (Int.natCast_pow 2 s).symm
    rw [e1] at h2
    rw [e2] at h3
    exact Or.inr ⟨h1, by omega, by omega⟩
theorem neg_emod {v m : Int} (hm : 0 < m) : (-v) % m = if 0 < v % m then m - v % m else v % m := by
  have h1 := Int.emod_nonneg v (show m ≠ 0 by omega)
  have h2 := Int.emod_lt_of_pos v hm
  have h3 := Int.mul_ediv_add_emod v m
  have e : -v = (m - v % m) + m * (-(v / m) - 1) := by
    rw [Int.mul_sub, Int.mul_neg, Int.mul_one]
    omega
  by_cases z : 0 < v % m
  · rw [if_pos z, e, Int.add_mul_emod_self_left]
    exact Int.emod_eq_of_lt (by omega) (by omega)
  · rw [if_neg z, e, Int.add_mul_emod_self_left, show m - v % m = m by omega, Int.emod_self]
    omega
section
variable {d w : Int} {n : Nat} {A : Nat → pI} {nxt : Nat → Nat} {cls : Nat → Int} {cnt : Nat} {nm : Nat → Nat}
variable {xs : Nat → Int32} {Ln : Nat} {T : isTF d w n A nxt cls cnt nm} {ord : Fin cnt → Nat} {st : gS cnt} {ps : List Nat} {t u x6 x7 mn : Int} {f : Fm} {e c s1 s2 r wl : Nat} {fs : List Fam} {nb : Int} {ts : List Nat}
variable {G : mj_G} {I : mj_H → Prop} {h : mj_H}
theorem nuE.abs {m : mxI} {W : Nat → Int} {f : Fm} {t u x6 x7 : Int} (hE : nuE m W f t u x6 x7) (fs : List Fam) (j : Nat) : (nuV m (vC f t u x6 x7) (pC fs) j).natAbs = (nuM W f t u x6 x7 fs j).natAbs := by
  rw [← hE fs j]
  split
  · rw [Int.natAbs_neg]
  · rfl
theorem op_185 (hE : nuE (itM d w s2 (itF d w e f) (itM d w s1 f (1, 0, 0, 1))) (wyR (tnF d w f) wl) f t u x6 x7) (hr : ∀ j, j < 12 → inR (nuM (wyR (tnF d w f) wl) f t u x6 x7 fs j)) (hI0 : ∀ h', isSt xs Ln T ord st ps t u x6 x7 mn f e c s1 s2 r wl fs nb ts h' → I h') (hs : isSt xs Ln T ord st ps t u x6 x7 mn f e c s1 s2 r wl fs nb ts h) (p q : Int32) : op1 G I Ln xs 185 285 [.int p, .int q] h := by
  obtain ⟨i, rfl, hi⟩ := int_ex p
  obtain ⟨k, rfl, hk⟩ := int_ex q
  have c1 := ct_186 G hs.2.1 hs.2.2.2.2.1.nu hi hk
  refine op_ofT (kd := 81) (ok := (0 ≤ i ∧ i < 12 + 2 * (fs.length : Int)) ∧ 0 ≤ k ∧ k < 512) (v := ((nuM (wyR (tnF d w f) wl) f t u x6 x7 fs i.toNat).natAbs : Int) / pB (2 * k.toNat)) (kP := fun k => k = 81) (cf := code1) hI0 hs rfl ⟨by decide, by decide⟩ (fun Q c hQ => ct_185 G (hs.2.1.K 1 rfl) c hQ) (mj_Ct_mono c1 (fun o h' q => ⟨fun y => ?_, q.2⟩)) (fun h1 s1' => mj_Ct_mono (ct_285 G s1'.2.2.1 s1'.2.2.2.2.2.2.2.2.2.1.2.1 s1'.2.2.2.2.2.2.2.2.2.1.2.2.1 hi hk (s1'.2.2.2.2.2.tn hr)) (fun o h' q => ⟨fun y => (q.1 y.1).1 y.2, fun y => ?_⟩))
  · have q1 := q.1 y.1 y.2
    rw [hE.abs fs i.toNat, Int.natCast_ediv, ← pB_2] at q1
    exact q1
  · by_cases z : 0 ≤ i ∧ i < 12 + 2 * (fs.length : Int)
    · exact (q.1 z).2 (fun y2 => y ⟨z, y2⟩)
    · exact q.2 z
theorem op_182 (hE : nuE (itM d w s2 (itF d w e f) (itM d w s1 f (1, 0, 0, 1))) (wyR (tnF d w f) wl) f t u x6 x7) (hr : ∀ j, j < 12 → inR (nuM (wyR (tnF d w f) wl) f t u x6 x7 fs j)) (hb : ∀ j, j < 12 + 2 * fs.length → ((nuM (wyR (tnF d w f) wl) f t u x6 x7 fs j).natAbs : Int) < pB 1024) (hI0 : ∀ h', isSt xs Ln T ord st ps t u x6 x7 mn f e c s1 s2 r wl fs nb ts h' → I h') (hs : isSt xs Ln T ord st ps t u x6 x7 mn f e c s1 s2 r wl fs nb ts h) (p : Int32) : op1 G I Ln xs 182 282 [.int p] h := by
  obtain ⟨i, rfl, hi⟩ := int_ex p
  have c1 := ct_183 G hs.2.1 hs.2.2.2.2.1.nu hi
  obtain ⟨s, hs0⟩ := isBt_ex (nuM (wyR (tnF d w f) wl) f t u x6 x7 fs i.toNat)
  refine op_ofT (kd := 81) (ok := 0 ≤ i ∧ i < 12 + 2 * (fs.length : Int)) (v := (s : Nat)) (kP := fun k => k = 81) (cf := code1) hI0 hs rfl ⟨by decide, by decide⟩ (fun Q c hQ => ct_182 G (hs.2.1.K 1 rfl) c hQ) (mj_Ct_mono c1 (fun o h' q => ⟨fun y => ?_, q.2⟩)) (fun h1 s1' => mj_Ct_mono (ct_282 G s1'.2.2.1 s1'.2.2.2.2.2.2.2.2.2.1.2.1 s1'.2.2.2.2.2.2.2.2.2.1.2.2.1 hi (s1'.2.2.2.2.2.tn hr) hb) (fun o h' q => ⟨fun y => ?_, q.2⟩))
  · obtain ⟨s', hs', q1⟩ := q.1 y
    have e1 : s' = s := by
      have := hE fs i.toNat
      split at this
      · rw [← this] at hs0
        exact isBt_u (isBt_neg hs') hs0
      · rw [← this] at hs0
        exact isBt_u hs' hs0
    rw [e1] at q1
    exact q1
  · obtain ⟨⟨s', e1, e2⟩, e3, e4⟩ := q.1 y
    have e5 : s' = s := isBt_u (bt_of e2) hs0
    rw [e5] at e1
    exact ⟨e1, e3, e4⟩
theorem op_187 (hE : nuE (itM d w s2 (itF d w e f) (itM d w s1 f (1, 0, 0, 1))) (wyR (tnF d w f) wl) f t u x6 x7) (hr : ∀ j, j < 12 → inR (nuM (wyR (tnF d w f) wl) f t u x6 x7 fs j)) (hb : ∀ j, j < 12 + 2 * fs.length → ((nuM (wyR (tnF d w f) wl) f t u x6 x7 fs j).natAbs : Int) < pB 1024) (hI0 : ∀ h', isSt xs Ln T ord st ps t u x6 x7 mn f e c s1 s2 r wl fs nb ts h' → I h') (hs : isSt xs Ln T ord st ps t u x6 x7 mn f e c s1 s2 r wl fs nb ts h) (p q : Int32) : op1 G I Ln xs 187 286 [.int p, .int q] h := by
  obtain ⟨i, rfl, hi⟩ := int_ex p
  obtain ⟨k, rfl, hk⟩ := int_ex q
  have c1 := ct_188 G hs.2.1 hs.2.2.2.2.1.nu hi hk
  have c2 := fun h1 (s1' : isSt xs Ln T ord st ps t u x6 x7 mn f e c s1 s2 r wl fs nb ts h1) => ct_286 G s1'.2.2.1 s1'.2.2.2.2.2.2.2.2.2.1.2.1 s1'.2.2.2.2.2.2.2.2.2.1.2.2.1 hi hk (s1'.2.2.2.2.2.tn hr) hb
  by_cases z : 0 ≤ i ∧ i < 12 + 2 * (fs.length : Int)
  · refine op_ofT (kd := 80) (ok := 0 < k) (v := nuM (wyR (tnF d w f) wl) f t u x6 x7 fs i.toNat % k) (kP := fun k => k = 81 ∨ k = 80) (cf := code81) hI0 hs (Or.inr rfl) ⟨by decide, by decide⟩ (fun Q c hQ => ct_187 G (hs.2.1.K 1 rfl) c hQ) (mj_Ct_mono c1 (fun o h' q => ⟨fun y => ?_, fun y => (q.1 z).2 y⟩)) (fun h1 s1' => mj_Ct_mono (c2 h1 s1') (fun o h' q => ⟨fun y => (q.1 z).1 y, fun y => (q.1 z).2 y⟩))
    have q1 := (q.1 z).1 y
    have e1 : tnR i k (nuV (itM d w s2 (itF d w e f) (itM d w s1 f (1, 0, 0, 1))) (vC f t u x6 x7) (pC fs) i.toNat) = nuM (wyR (tnF d w f) wl) f t u x6 x7 fs i.toNat % k := by
      rw [← hE fs i.toNat]
      unfold tnR
      by_cases y1 : i = 1 ∨ i = 2
      · rw [if_pos (show i.toNat = 1 ∨ i.toNat = 2 by omega), neg_emod y]
        by_cases y2 : 0 < nuV (itM d w s2 (itF d w e f) (itM d w s1 f (1, 0, 0, 1))) (vC f t u x6 x7) (pC fs) i.toNat % k
        · rw [if_pos ⟨y1, y2⟩, if_pos y2]
        · rw [if_neg (fun y3 => y2 y3.2), if_neg y2]
      · rw [if_neg (fun y3 => y1 y3.1), if_neg (by omega)]
    rw [e1] at q1
    exact q1
  · exact op_ofT (kd := 81) (ok := False) (v := 0) (kP := fun k => k = 81 ∨ k = 80) (cf := code81) hI0 hs (Or.inl rfl) ⟨by decide, by decide⟩ (fun Q c hQ => ct_187 G (hs.2.1.K 1 rfl) c hQ) (mj_Ct_mono c1 (fun o h' q => ⟨fun y => y.elim, fun _ => q.2 z⟩)) (fun h1 s1' => mj_Ct_mono (c2 h1 s1') (fun o h' q => ⟨fun y => y.elim, fun _ => q.2 z⟩))
end
