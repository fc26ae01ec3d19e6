/-! operations: symbols and characters -/
theorem fac_ex : ∀ (k n : Nat), n ≤ k → 0 < n → ∃ (e : Nat) (ps : List Nat), allP ps ∧ n = 2 ^ e * prodL ps := by
  intro k
  induction k with
  | zero => intro n h1 h2; omega
  | succ k ih =>
    intro n h1 h2
    by_cases z : n = 1
    · exact ⟨0, [], fun p hp => absurd hp (by simp), by rw [z]; rfl⟩
    · obtain ⟨p, hp, m, hm⟩ := ex_pr n n (Nat.le_refl _) (by omega)
      have hp2 := hp.1
      have hm0 : 0 < m := by
        rcases Nat.eq_zero_or_pos m with y | y
        · rw [y] at hm
          omega
        · exact y
      have hml : m < n := by
        have := Nat.mul_le_mul hp2 (Nat.le_refl m)
        omega
      obtain ⟨e, ps, a1, a2⟩ := ih m (by omega) hm0
      by_cases y : p = 2
      · refine ⟨e + 1, ps, a1, ?_⟩
        rw [hm, y, a2, Nat.pow_succ, Nat.mul_comm (2 ^ e) 2, Nat.mul_assoc]
      · have hodd : p % 2 = 1 := by
          rcases Nat.mod_two_eq_zero_or_one p with w | w
          · rcases hp.2 2 (Nat.dvd_of_mod_eq_zero w) with v | v <;> omega
          · exact w
        refine ⟨e, p :: ps, fun q hq => ?_, ?_⟩
        · rcases List.mem_cons.1 hq with v | v
          · rw [v]
            exact ⟨hp, hodd⟩
          · exact a1 q v
        · show n = 2 ^ e * (p * prodL ps)
          rw [hm, a2, Nat.mul_left_comm]
/-- the residue as a natural number -/
theorem toN_mod (v : Int) {p : Nat} (hp : 0 < p) : (((v % (p : Int)).toNat : Nat) : Int) = v % (p : Int) := by
  have := Int.emod_nonneg v (show (p : Int) ≠ 0 by omega)
  omega
theorem leg_unit {p V : Nat} (hp : Pr p) (h2 : p % 2 = 1) (hv : V % p ≠ 0) : legN (V * V) p = 1 := by
  rw [leg_mul hp h2]
  rcases leg_pm hv with z | z <;> rw [z] <;> rfl
/-- two values of a form, modulo a prime of its discriminant -/
theorem leg_val {p : Nat} (hp : Pr p) (h2 : p % 2 = 1) {F : Fm} {d : Int} (hd : F.2.1 * F.2.1 - 4 * F.1 * F.2.2 = d) (hpd : (p : Int) ∣ d) {x y z t : Int} {u v : Int} (hu : u = F.1 * x * x + F.2.1 * x * y + F.2.2 * y * y) (hv : v = F.1 * z * z + F.2.1 * z * t + F.2.2 * t * t) (hu0 : u % (p : Int) ≠ 0) (hv0 : v % (p : Int) ≠ 0) : legN (u % (p : Int)).toNat p = legN (v % (p : Int)).toNat p := by
  have hp0 : 0 < p := by have := hp.1; omega
  have key : 4 * (u * v) = (2 * F.1 * x * z + F.2.1 * (x * t + y * z) + 2 * F.2.2 * y * t) * (2 * F.1 * x * z + F.2.1 * (x * t + y * z) + 2 * F.2.2 * y * t) - d * ((x * t - y * z) * (x * t - y * z)) := by
    rw [hu, hv, ← hd]
    obtain ⟨a, b, c⟩ := F
    simp only
    grind
  obtain ⟨X, hX⟩ : ∃ X, X = 2 * F.1 * x * z + F.2.1 * (x * t + y * z) + 2 * F.2.2 * y * t := ⟨_, rfl⟩
  rw [← hX] at key
  have cong : (4 * (u * v)) % (p : Int) = (X * X) % (p : Int) := by
    rw [key]
    obtain ⟨k, hk⟩ := hpd
    rw [hk, Int.mul_assoc, Int.sub_mul_emod_self_left]
  obtain ⟨U, hU⟩ : ∃ U, U = (u % (p : Int)).toNat := ⟨_, rfl⟩
  obtain ⟨V, hV⟩ : ∃ V, V = (v % (p : Int)).toNat := ⟨_, rfl⟩
  obtain ⟨Y, hY⟩ : ∃ Y, Y = (X % (p : Int)).toNat := ⟨_, rfl⟩
  have eU := toN_mod u hp0
  have eV := toN_mod v hp0
  have eY := toN_mod X hp0
  rw [← hU] at eU
  rw [← hV] at eV
  rw [← hY] at eY
  rw [← hU, ← hV]
  have congN : (2 * 2 * (U * V)) % p = (Y * Y) % p := by
    have h3 : (((2 * 2 * (U * V)) % p : Nat) : Int) = (((Y * Y) % p : Nat) : Int) := by
      rw [Int.natCast_emod, Int.natCast_emod, Int.natCast_mul (2 * 2) (U * V), Int.natCast_mul U V, Int.natCast_mul Y Y, eU, eV, eY]
      have e1 : ((2 * 2 : Nat) : Int) * (u % (p : Int) * (v % (p : Int))) % (p : Int) = 4 * (u * v) % (p : Int) := by
        rw [Int.mul_emod, ← Int.mul_emod u v, ← Int.mul_emod]
        rfl
      have e2 : X % (p : Int) * (X % (p : Int)) % (p : Int) = X * X % (p : Int) := (Int.mul_emod X X p).symm
      rw [e1, e2, cong]
    exact Int.ofNat.inj h3
  have hUl : U % p ≠ 0 := by
    intro q
    have : U < p := by
      have := Int.emod_lt_of_pos u (show 0 < (p : Int) by omega)
      omega
    rw [Nat.mod_eq_of_lt this] at q
    omega
  have hVl : V % p ≠ 0 := by
    intro q
    have : V < p := by
      have := Int.emod_lt_of_pos v (show 0 < (p : Int) by omega)
      omega
    rw [Nat.mod_eq_of_lt this] at q
    omega
  have h2l : 2 % p ≠ 0 := by
    rw [Nat.mod_eq_of_lt (by have := hp.1; omega)]
    decide
  have hYl : Y % p ≠ 0 := by
    intro q
    have h4 : p ∣ 2 * 2 * (U * V) := by
      refine Nat.dvd_of_mod_eq_zero ?_
      rw [congN, Nat.mul_mod, q]
      rfl
    rcases pr_mul hp h4 with h5 | h5
    · rcases pr_mul hp h5 with h6 | h6 <;> exact h2l (Nat.mod_eq_zero_of_dvd h6)
    · rcases pr_mul hp h5 with h6 | h6
      · exact hUl (Nat.mod_eq_zero_of_dvd h6)
      · exact hVl (Nat.mod_eq_zero_of_dvd h6)
  have h6 := leg_congr congN
  rw [leg_mul hp h2, leg_unit hp h2 h2l, leg_unit hp h2 hYl, leg_mul hp h2, Int.one_mul] at h6
  rcases leg_pm hUl with q | q <;> rcases leg_pm hVl with q' | q' <;> rw [q, q'] at h6 ⊢ <;> first | rfl | exact absurd h6 (by decide)
/-- the value that the house takes is a value of the form -/
theorem chV_val (F : Fm) (p : Nat) : ∃ z t : Int, chV F p = F.1 * z * z + F.2.1 * z * t + F.2.2 * t * t := by
  unfold chV
  by_cases h1 : F.1 % (p : Int) ≠ 0
  · rw [if_pos h1]
    exact ⟨1, 0, by simp⟩
  · rw [if_neg h1]
    by_cases h2 : F.2.2 % (p : Int) ≠ 0
    · rw [if_pos h2]
      exact ⟨0, 1, by simp⟩
    · rw [if_neg h2]
      exact ⟨1, 1, by simp⟩
theorem leg_chars {p : Nat} (hp : Pr p) (h2 : p % 2 = 1) {F g : Fm} {d : Int} (hd : F.2.1 * F.2.1 - 4 * F.1 * F.2.2 = d) (hpd : (p : Int) ∣ d) (hE : Eqv F g) (hg : Int.gcd g.1 (p : Nat) = 1) (hc : chV F p % (p : Int) ≠ 0) : legN (chV F p % (p : Int)).toNat p = legN (g.1 % (p : Int)).toNat p := by
  obtain ⟨z, t, hz⟩ := chV_val F p
  obtain ⟨a, b, r, s, hdet, rfl⟩ := hE
  refine leg_val hp h2 hd hpd hz (show (acF F a b r s).1 = F.1 * a * a + F.2.1 * a * r + F.2.2 * r * r from rfl) hc ?_
  intro q
  have h3 : (p : Int) ∣ (acF F a b r s).1 := Int.dvd_of_emod_eq_zero q
  have h4 : (p : Int) ∣ (Int.gcd (acF F a b r s).1 (p : Nat) : Int) := Int.dvd_coe_gcd h3 (Int.dvd_refl _)
  rw [hg] at h4
  have := Int.le_of_dvd (by decide) h4
  have := hp.1
  omega
section
variable {d w : Int} {n : Nat} {A : Nat → pI} {nxt : Nat → Nat} {cls : Nat → Int} {cnt : Nat} {nm : Nat → Nat}
variable {xs : Nat → Int32} {Ln : Nat} {T : isTF d w n A nxt cls cnt nm} {ord : Fin cnt → Nat} {st : gS cnt} {ps : List Nat} {t u x6 x7 mn : Int} {f : Fm} {e c s1 s2 r wl : Nat} {fs : List Fam} {nb : Int} {ts : List Nat}
variable {G : mj_G} {I : mj_H → Prop} {h : mj_H}
theorem nm_vld (T : isTF d w n A nxt cls cnt nm) {k : Nat} (hk : k < cnt) : Vld d (nmF d A nm k) := by
  obtain ⟨m1, -⟩ := T.2.2.2.1 k hk
  exact (T.2.1 _ m1).1
theorem chV_ne {F : Fm} {p : Nat} (hp : Pr p) (hP : Prim F) : chV F p % (p : Int) ≠ 0 := by
  unfold chV
  by_cases h1 : F.1 % (p : Int) ≠ 0
  · rw [if_pos h1]
    exact h1
  · rw [if_neg h1]
    by_cases h2 : F.2.2 % (p : Int) ≠ 0
    · rw [if_pos h2]
      exact h2
    · rw [if_neg h2]
      intro h3
      have a1 : (p : Int) ∣ F.1 := Int.dvd_of_emod_eq_zero (by omega)
      have a2 : (p : Int) ∣ F.2.2 := Int.dvd_of_emod_eq_zero (by omega)
      have a3 : (p : Int) ∣ F.1 + F.2.1 + F.2.2 := Int.dvd_of_emod_eq_zero h3
      have a4 : (p : Int) ∣ F.2.1 := by
        have h5 := Int.dvd_sub (Int.dvd_sub a3 a1) a2
        rw [show F.1 + F.2.1 + F.2.2 - F.1 - F.2.2 = F.2.1 by omega] at h5
        exact h5
      obtain ⟨x, y, z, hxyz⟩ := hP
      have h6 : (p : Int) ∣ 1 := by
        rw [← hxyz]
        exact Int.dvd_add (Int.dvd_add (Int.dvd_mul_of_dvd_right a1) (Int.dvd_mul_of_dvd_right a4)) (Int.dvd_mul_of_dvd_right a2)
      have := Int.le_of_dvd (by decide) h6
      have := hp.1
      omega
theorem op_122 (hpp : ∀ p, p ∈ ps → Pr p ∧ p % 2 = 1 ∧ p ≤ 1048576) (hpd : ∀ p, p ∈ ps → (p : Int) ∣ d) (hf7 : ∀ c p, c < cnt → p ∈ ps → fr7 (nmF d A nm c) (p : Nat)) (hbd : ∀ c, c < cnt → (nmF d A nm c).2.2.natAbs ≤ 1048576) (hI0 : ∀ h', isSt xs Ln T ord st ps t u x6 x7 mn f e c s1 s2 r wl fs nb ts h' → I h') (hs : isSt xs Ln T ord st ps t u x6 x7 mn f e c s1 s2 r wl fs nb ts h) (p q : Int32) : op1 G I Ln xs 122 263 [.int p, .int q] h := by
  obtain ⟨k, rfl, hk⟩ := int_ex p
  obtain ⟨i, rfl, hi⟩ := int_ex q
  have c1 := ct_123 G hs.2.1 T hs.2.2.2.2.1.1.1 hs.2.2.2.2.1.1.2.2.2.1 hpp (fun c p hc hp => chV_ne (hpp p hp).1 (nm_vld T hc).2.1) hbd hk hi
  have c2 := fun h1 (s1' : isSt xs Ln T ord st ps t u x6 x7 mn f e c s1 s2 r wl fs nb ts h1) => ct_263 G s1'.2.2.1 T s1'.2.2.2.2.2.1.1 s1'.2.2.2.2.2.1.2.2.2 hpp hf7 hbd hk hi
  by_cases z : (0 ≤ k ∧ k < cnt) ∧ 0 ≤ i ∧ i < ps.length
  · obtain ⟨g, hg⟩ := get_ex z.2
    have hmem := List.mem_of_getElem? hg
    refine op_of (kd := 81) (ok := (0 ≤ k ∧ k < cnt) ∧ 0 ≤ i ∧ i < ps.length) (v := legN (chV (nmF d A nm k.toNat) g % (g : Int)).toNat g) hI0 hs idle113 (fun Q c hQ => ct_122 G (hs.2.1.K 1 rfl) c hQ) (mj_Ct_mono c1 (fun o h' q => ⟨fun y => q.1 y.1 g y.2.1 hg, q.2⟩)) (fun h1 s1' => mj_Ct_mono (c2 h1 s1') (fun o h' q => ⟨fun y => ?_, q.2⟩))
    obtain ⟨F, hE, hgc, hq⟩ := q.1 y.1 g y.2.1 hg
    have hv := nm_vld T (k := k.toNat) (by omega)
    rw [leg_chars (hpp g hmem).1 (hpp g hmem).2.1 hv.1 (hpd g hmem) hE hgc (chV_ne (hpp g hmem).1 hv.2.1)]
    exact hq
  · exact op_of (kd := 81) (ok := (0 ≤ k ∧ k < cnt) ∧ 0 ≤ i ∧ i < ps.length) (v := 0) hI0 hs idle113 (fun Q c hQ => ct_122 G (hs.2.1.K 1 rfl) c hQ) (mj_Ct_mono c1 (fun o h' q => ⟨fun y => absurd y z, q.2⟩)) (fun h1 s1' => mj_Ct_mono (c2 h1 s1') (fun o h' q => ⟨fun y => absurd y z, q.2⟩))
theorem op_125 (hI0 : ∀ h', isSt xs Ln T ord st ps t u x6 x7 mn f e c s1 s2 r wl fs nb ts h' → I h') (hs : isSt xs Ln T ord st ps t u x6 x7 mn f e c s1 s2 r wl fs nb ts h) (p : Int32) : op1 G I Ln xs 125 259 [.int p] h := by
  obtain ⟨i, rfl, hi⟩ := int_ex p
  obtain ⟨⟨hnsq, hdd, hd, -⟩, -⟩ := id T
  have d1 : d ≠ 1 := fun z => hnsq 1 (by rw [z]; rfl)
  have d2 : d ≠ -1 := fun z => by
    unfold isDd at hdd
    omega
  obtain ⟨e9, qs, hq1, hq2⟩ : ∃ (e : Nat) (qs : List Nat), allP qs ∧ (i ≠ 0 → i.natAbs = 2 ^ e * prodL qs) := by
    by_cases z : i = 0
    · exact ⟨0, [], fun p hp => absurd hp (by simp), fun y => absurd z y⟩
    · obtain ⟨e, qs, h1, h2⟩ := fac_ex i.natAbs i.natAbs (Nat.le_refl _) (by omega)
      exact ⟨e, qs, h1, fun _ => h2⟩
  have c1 := ct_126 G hs.2.1 hs.2.2.2.2.1.1.1.2.2 hd d1 d2 hi hq1 hq2
  have c2 := fun h1 (s1' : isSt xs Ln T ord st ps t u x6 x7 mn f e c s1 s2 r wl fs nb ts h1) => ct_259 G s1'.2.2.1 s1'.2.2.2.2.2.1.1.2.2 hd hi hq1 hq2
  by_cases z : i = 0
  · exact op_of (kd := 80) (ok := -4194304 ≤ i ∧ i ≤ 4194304) (v := 0) hI0 hs idle0 (fun Q c hQ => ct_125 G (hs.2.1.K 1 rfl) c hQ) (mj_Ct_mono c1 (fun o h' q => ⟨fun y => (q.1 y).1 z, q.2⟩)) (fun h1 s1' => mj_Ct_mono (c2 h1 s1') (fun o h' q => ⟨fun y => (q.1 y).1 z, q.2⟩))
  · exact op_of (kd := 80) (ok := -4194304 ≤ i ∧ i ≤ 4194304) (v := kro d i e9 qs) hI0 hs idle0 (fun Q c hQ => ct_125 G (hs.2.1.K 1 rfl) c hQ) (mj_Ct_mono c1 (fun o h' q => ⟨fun y => (q.1 y).2 z, q.2⟩)) (fun h1 s1' => mj_Ct_mono (c2 h1 s1') (fun o h' q => ⟨fun y => (q.1 y).2 z, q.2⟩))
end
