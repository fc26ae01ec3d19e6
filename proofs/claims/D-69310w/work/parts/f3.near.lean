/-! a form without a common divisor is near: places by two small numbers -/
def eqm (l : Nat) (u v : Nat × Nat) : Bool := Nat.beq (Nat.mod (Nat.add (Nat.mul u.1 v.2) (Nat.mul 64 u.2)) l) (Nat.mod (Nat.add (Nat.mul v.1 u.2) (Nat.mul 64 v.2)) l)
def dst (a b : Nat) : Nat := Nat.add (Nat.sub a b) (Nat.sub b a)
def okd (q : Nat) (u v : Nat × Nat) : Bool := !(Nat.beq (dst (Nat.add (Nat.mul u.1 v.2) (Nat.mul 64 u.2)) (Nat.add (Nat.mul v.1 u.2) (Nat.mul 64 v.2))) 0) && Nat.beq (Nat.mod q (dst (Nat.add (Nat.mul u.1 v.2) (Nat.mul 64 u.2)) (Nat.add (Nat.mul v.1 u.2) (Nat.mul 64 v.2)))) 0
def rps (l : Nat) : List (Nat × Nat) → List (Nat × Nat)
  | [] => []
  | w :: t => bif (rps l t).any (eqm l w) then rps l t else w :: rps l t
def prs : List (Nat × Nat) → List ((Nat × Nat) × (Nat × Nat))
  | [] => []
  | u :: t => t.map (fun v => (u, v)) ++ prs t
def clq (q : Nat) : Nat → Nat → List (Nat × Nat) → Bool
  | _, 0, _ => true
  | 0, _ + 1, _ => false
  | _ + 1, _ + 1, [] => false
  | F + 1, n + 1, w :: t => clq q F n (t.filter (okd q w)) || clq q F (n + 1) t
def ckS (q need : Nat) : List Nat → List (Nat × Nat) → Bool
  | [], L => clq q 100 need L
  | l :: s, L => Nat.ble 2 (rps l L).length && (prs (rps l L)).all (fun z => ckS q need s (L.filter (fun w => !(eqm l z.1 w) && !(eqm l z.2 w))))
def KK : List (Nat × Nat) := [(64, 1), (63, 0), (63, 1), (62, 1), (65, 1), (59, 2), (61, 2), (63, 2), (65, 2), (66, 1), (67, 2), (61, 1), (54, 3), (57, 3), (60, 3), (63, 3), (66, 3), (69, 3), (67, 1), (72, 3), (60, 1), (47, 4), (51, 4), (55, 4), (59, 4), (63, 4), (67, 4), (71, 4), (75, 4), (68, 1), (79, 4), (59, 1), (38, 5), (43, 5), (48, 5), (53, 5), (58, 5), (63, 5), (68, 5), (73, 5), (78, 5), (83, 5), (69, 1), (88, 5), (58, 1), (27, 6), (33, 6), (39, 6), (45, 6), (51, 6), (57, 6), (63, 6), (69, 6), (75, 6), (81, 6), (87, 6), (93, 6), (70, 1), (99, 6), (57, 1), (14, 7), (21, 7), (28, 7), (35, 7), (42, 7), (49, 7), (56, 7), (63, 7), (70, 7), (77, 7), (84, 7), (91, 7), (98, 7), (105, 7), (71, 1), (112, 7)]
def xN (u : Nat × Nat) : Int := (u.1 : Int) - 64
def yN (u : Nat × Nat) : Int := u.2
def dt (u v : Nat × Nat) : Int := xN u * yN v - xN v * yN u
def evN (f : Fm) (u : Nat × Nat) : Int := evF f (xN u) (yN u)
def pvN (u : Nat × Nat) : Prop := ∃ a b : Int, a * xN u + b * yN u = 1
theorem dt_eq (u v : Nat × Nat) : ((u.1 * v.2 + 64 * u.2 : Nat) : Int) - ((v.1 * u.2 + 64 * v.2 : Nat) : Int) = dt u v := by
  unfold dt xN yN
  push_cast
  grind
theorem eqm_iff (l : Nat) (u v : Nat × Nat) : eqm l u v = true ↔ (l : Int) ∣ dt u v := by
  have h : eqm l u v = Nat.beq ((u.1 * v.2 + 64 * u.2) % l) ((v.1 * u.2 + 64 * v.2) % l) := rfl
  rw [h, Nat.beq_eq, ← dt_eq]
  generalize u.1 * v.2 + 64 * u.2 = P
  generalize v.1 * u.2 + 64 * v.2 = Q
  constructor
  · intro h
    have : (P : Int) % l = (Q : Int) % l := by
      have := congrArg (fun x : Nat => (x : Int)) h
      simpa using this
    exact Int.dvd_of_emod_eq_zero (Int.emod_eq_emod_iff_emod_sub_eq_zero.1 this)
  · intro h
    have : (P : Int) % l = (Q : Int) % l := Int.emod_eq_emod_iff_emod_sub_eq_zero.2 (Int.emod_eq_zero_of_dvd h)
    have h2 : ((P % l : Nat) : Int) = ((Q % l : Nat) : Int) := by
      rw [Int.natCast_emod, Int.natCast_emod]
      exact this
    omega
theorem dst_abs (a b : Nat) : dst a b = ((a : Int) - b).natAbs := by
  show (a - b) + (b - a) = _
  omega
theorem okd_of {q : Nat} {u v : Nat × Nat} (h : okd q u v = true) : dt u v ≠ 0 ∧ (dt u v).natAbs ∣ q := by
  have e : okd q u v = (!(Nat.beq (dst (u.1 * v.2 + 64 * u.2) (v.1 * u.2 + 64 * v.2)) 0) && Nat.beq (q % dst (u.1 * v.2 + 64 * u.2) (v.1 * u.2 + 64 * v.2)) 0) := rfl
  rw [e, dst_abs, dt_eq, Bool.and_eq_true] at h
  obtain ⟨h1, h2⟩ := h
  refine ⟨fun z => ?_, Nat.dvd_of_mod_eq_zero (Nat.eq_of_beq_eq_true h2)⟩
  rw [z] at h1
  cases h1
/-- the bad places of a form, by a prime -/
theorem bad3 {f : Fm} (hp : Prim f) {l : Nat} (hl : Pr l) {u v w : Nat × Nat} (hu : (l : Int) ∣ evN f u) (hv : (l : Int) ∣ evN f v) (hw : (l : Int) ∣ evN f w) (huv : ¬ (l : Int) ∣ dt u v) : (l : Int) ∣ dt u w ∨ (l : Int) ∣ dt v w := by
  obtain ⟨a, b, c⟩ := f
  obtain ⟨X, hX⟩ : ∃ X, xN u = X := ⟨_, rfl⟩
  obtain ⟨Y, hY⟩ : ∃ Y, yN u = Y := ⟨_, rfl⟩
  obtain ⟨X', hX'⟩ : ∃ X, xN v = X := ⟨_, rfl⟩
  obtain ⟨Y', hY'⟩ : ∃ Y, yN v = Y := ⟨_, rfl⟩
  obtain ⟨x, hx⟩ : ∃ X, xN w = X := ⟨_, rfl⟩
  obtain ⟨y, hy⟩ : ∃ Y, yN w = Y := ⟨_, rfl⟩
  unfold evN at hu hv hw
  unfold dt at huv ⊢
  rw [hX, hY] at hu huv
  rw [hX', hY'] at hv huv
  rw [hx, hy] at hw
  rw [hX, hY, hX', hY', hx, hy]
  have fu : (l : Int) ∣ a * X * X + b * X * Y + c * Y * Y := hu
  have fv : (l : Int) ∣ a * X' * X' + b * X' * Y' + c * Y' * Y' := hv
  have fw : (l : Int) ∣ a * x * x + b * x * y + c * y * y := hw
  obtain ⟨U, hU⟩ := fu
  obtain ⟨V, hV⟩ := fv
  obtain ⟨W, hW⟩ := fw
  obtain ⟨D, hD⟩ : ∃ D, X * Y' - X' * Y = D := ⟨_, rfl⟩
  obtain ⟨B, hB⟩ : ∃ B, 2 * a * X * X' + b * (X * Y' + X' * Y) + 2 * c * Y * Y' = B := ⟨_, rfl⟩
  rw [hD] at huv
  -- the three numbers times D^2
  have three : ¬ (l : Int) ∣ B := by
    rintro ⟨β, hβ⟩
    have kill : ∀ p q : Int, (l : Int) ∣ D * D * (a * p * p + b * p * q + c * q * q) := by
      intro p q
      refine ⟨U * (p * Y' - X' * q) * (p * Y' - X' * q) + β * ((p * Y' - X' * q) * (X * q - p * Y)) + V * (X * q - p * Y) * (X * q - p * Y), ?_⟩
      have e : D * D * (a * p * p + b * p * q + c * q * q) = (a * X * X + b * X * Y + c * Y * Y) * (p * Y' - X' * q) * (p * Y' - X' * q) + B * ((p * Y' - X' * q) * (X * q - p * Y)) + (a * X' * X' + b * X' * Y' + c * Y' * Y') * (X * q - p * Y) * (X * q - p * Y) := by
        rw [← hD, ← hB]
        grind
      rw [e, hU, hV, hβ]
      grind
    have nd : ¬ (l : Int) ∣ D * D := fun z => by
      rcases pr_mulI hl z with y | y <;> exact huv y
    have k : ∀ p q : Int, (l : Int) ∣ a * p * p + b * p * q + c * q * q := fun p q => (pr_mulI hl (kill p q)).resolve_left nd
    have ka := k 1 0
    have kc := k 0 1
    have kb := k 1 1
    rw [show a * 1 * 1 + b * 1 * 0 + c * 0 * 0 = a by grind] at ka
    rw [show a * 0 * 0 + b * 0 * 1 + c * 1 * 1 = c by grind] at kc
    rw [show a * 1 * 1 + b * 1 * 1 + c * 1 * 1 = a + b + c by grind] at kb
    obtain ⟨p, q, r, e⟩ := hp
    have kb' : (l : Int) ∣ b := by
      have := Int.dvd_sub kb (Int.dvd_add ka kc)
      rwa [show a + b + c - (a + c) = b by omega] at this
    have : (l : Int) ∣ 1 := by
      rw [← e]
      exact Int.dvd_add (Int.dvd_add (Int.dvd_mul_of_dvd_right ka) (Int.dvd_mul_of_dvd_right kb')) (Int.dvd_mul_of_dvd_right kc)
    have := Int.le_of_dvd (by decide) this
    have := hl.1
    omega
  have dv : (l : Int) ∣ B * ((x * Y' - X' * y) * (X * y - x * Y)) := by
    refine ⟨D * D * W - U * (x * Y' - X' * y) * (x * Y' - X' * y) - V * (X * y - x * Y) * (X * y - x * Y), ?_⟩
    have e : D * D * (a * x * x + b * x * y + c * y * y) = (a * X * X + b * X * Y + c * Y * Y) * (x * Y' - X' * y) * (x * Y' - X' * y) + B * ((x * Y' - X' * y) * (X * y - x * Y)) + (a * X' * X' + b * X' * Y' + c * Y' * Y') * (X * y - x * Y) * (X * y - x * Y) := by
      rw [← hD, ← hB]
      grind
    rw [hU, hV, hW] at e
    grind
  rcases pr_mulI hl dv with z | z
  · exact (three z).elim
  · rcases pr_mulI hl z with z | z
    · right
      have := Int.dvd_neg.2 z
      rwa [show -(x * Y' - X' * y) = X' * y - x * Y' by grind] at this
    · left
      exact z
/-- places that are the same by a prime -/
theorem same_bad {f : Fm} {l : Nat} (hl : Pr l) {u v : Nat × Nat} (pv : pvN v) (h : (l : Int) ∣ dt u v) (hv : (l : Int) ∣ evN f v) : (l : Int) ∣ evN f u := by
  obtain ⟨p, q, e⟩ := pv
  obtain ⟨k, hk⟩ := h
  obtain ⟨j, hj⟩ := hv
  unfold evN evF at hj ⊢
  unfold dt at hk
  generalize xN u = X at *
  generalize yN u = Y at *
  generalize xN v = X' at *
  generalize yN v = Y' at *
  -- X = m X' + l .., Y = m Y' + l .. with m = p X + q Y
  have e1 : X = (p * X + q * Y) * X' + q * (l * k) := by
    have : q * (X * Y' - X' * Y) = q * (l * k) := by rw [hk]
    have h2 : (p * X + q * Y) * X' + q * (X * Y' - X' * Y) = X * (p * X' + q * Y') := by grind
    rw [← this, h2, e, Int.mul_one]
  have e2 : Y = (p * X + q * Y) * Y' - p * (l * k) := by
    have : p * (X * Y' - X' * Y) = p * (l * k) := by rw [hk]
    have h2 : (p * X + q * Y) * Y' - p * (X * Y' - X' * Y) = Y * (p * X' + q * Y') := by grind
    rw [← this, h2, e, Int.mul_one]
  generalize p * X + q * Y = m at e1 e2
  rw [e1, e2]
  refine ⟨m * m * j + f.1 * (2 * m * X' * q * k + q * k * q * k * l) + f.2.1 * (m * Y' * q * k - m * X' * p * k - q * k * p * k * l) + f.2.2 * (p * k * p * k * l - 2 * m * Y' * p * k), ?_⟩
  have e3 : f.1 * (m * X' + q * (l * k)) * (m * X' + q * (l * k)) + f.2.1 * (m * X' + q * (l * k)) * (m * Y' - p * (l * k)) + f.2.2 * (m * Y' - p * (l * k)) * (m * Y' - p * (l * k)) = m * m * (f.1 * X' * X' + f.2.1 * X' * Y' + f.2.2 * Y' * Y') + l * (f.1 * (2 * m * X' * q * k + q * k * q * k * l) + f.2.1 * (m * Y' * q * k - m * X' * p * k - q * k * p * k * l) + f.2.2 * (p * k * p * k * l - 2 * m * Y' * p * k)) := by grind
  rw [e3, hj]
  grind
theorem dt_symm {l : Nat} {u v : Nat × Nat} (h : (l : Int) ∣ dt u v) : (l : Int) ∣ dt v u := by
  have := Int.dvd_neg.2 h
  rwa [show -(dt u v) = dt v u by unfold dt; grind] at this
theorem rps_mem (l : Nat) : ∀ (L : List (Nat × Nat)), (∀ r, r ∈ rps l L → r ∈ L) ∧ ∀ w, w ∈ L → ∃ r, r ∈ rps l L ∧ (l : Int) ∣ dt w r
  | [] => ⟨fun _ h => h, fun _ h => by cases h⟩
  | x :: t => by
    obtain ⟨h1, h2⟩ := rps_mem l t
    have e : rps l (x :: t) = bif (rps l t).any (eqm l x) then rps l t else x :: rps l t := rfl
    rw [e]
    cases c : (rps l t).any (eqm l x) with
    | true =>
      refine ⟨fun r hr => List.mem_cons_of_mem _ (h1 r hr), fun w hw => ?_⟩
      rcases List.mem_cons.1 hw with rfl | hw
      · obtain ⟨r, r1, r2⟩ := List.any_eq_true.1 c
        exact ⟨r, r1, (eqm_iff l w r).1 r2⟩
      · exact h2 w hw
    | false =>
      refine ⟨fun r hr => ?_, fun w hw => ?_⟩
      · rcases List.mem_cons.1 hr with rfl | hr
        · exact List.mem_cons_self ..
        · exact List.mem_cons_of_mem _ (h1 r hr)
      · rcases List.mem_cons.1 hw with rfl | hw
        · exact ⟨w, List.mem_cons_self .., ⟨0, by unfold dt; grind⟩⟩
        · obtain ⟨r, r1, r2⟩ := h2 w hw
          exact ⟨r, List.mem_cons_of_mem _ r1, r2⟩
theorem prs_mem : ∀ (R : List (Nat × Nat)) (u v : Nat × Nat), u ∈ R → v ∈ R → u ≠ v → (u, v) ∈ prs R ∨ (v, u) ∈ prs R
  | [], _, _, h, _, _ => by cases h
  | x :: t, u, v, hu, hv, hne => by
    have e : prs (x :: t) = t.map (fun v => (x, v)) ++ prs t := rfl
    rw [e]
    rcases List.mem_cons.1 hu with hu' | hu'
    · rcases List.mem_cons.1 hv with hv' | hv'
      · exact (hne (hu'.trans hv'.symm)).elim
      · exact Or.inl (List.mem_append_left _ (List.mem_map.2 ⟨v, hv', by rw [hu']⟩))
    · rcases List.mem_cons.1 hv with hv' | hv'
      · exact Or.inr (List.mem_append_left _ (List.mem_map.2 ⟨u, hu', by rw [hv']⟩))
      · rcases prs_mem t u v hu' hv' hne with z | z
        · exact Or.inl (List.mem_append_right _ z)
        · exact Or.inr (List.mem_append_right _ z)
theorem prs_any : ∀ (R : List (Nat × Nat)), 2 ≤ R.length → R.Nodup → ∀ u, u ∈ R → ∃ v, v ∈ R ∧ u ≠ v
  | [], h, _, _, _ => by cases h
  | [x], h, _, _, _ => by simp at h
  | x :: y :: t, _, hnd, u, hu => by
    have hxy : x ≠ y := fun z => by
      subst z
      exact (List.nodup_cons.1 hnd).1 (List.mem_cons_self ..)
    by_cases c : u = x
    · exact ⟨y, List.mem_cons_of_mem _ (List.mem_cons_self ..), by rw [c]; exact hxy⟩
    · exact ⟨x, List.mem_cons_self .., c⟩
theorem rps_nd (l : Nat) : ∀ L : List (Nat × Nat), (rps l L).Pairwise (fun u v => ¬ (l : Int) ∣ dt u v)
  | [] => List.Pairwise.nil
  | x :: t => by
    have e : rps l (x :: t) = bif (rps l t).any (eqm l x) then rps l t else x :: rps l t := rfl
    rw [e]
    cases c : (rps l t).any (eqm l x) with
    | true => exact rps_nd l t
    | false =>
      refine List.Pairwise.cons (fun v hv z => ?_) (rps_nd l t)
      have := List.any_eq_false.1 c v hv
      exact this ((eqm_iff l x v).2 z)
theorem clq_ex (q : Nat) : ∀ (F n : Nat) (L : List (Nat × Nat)), clq q F n L = true → ∃ S : List (Nat × Nat), S.length = n ∧ (∀ u, u ∈ S → u ∈ L) ∧ S.Pairwise (fun u v => okd q u v = true)
  | _, 0, L, _ => ⟨[], rfl, (fun _ h => by cases h), List.Pairwise.nil⟩
  | 0, _ + 1, _, h => by cases h
  | _ + 1, _ + 1, [], h => by cases h
  | F + 1, n + 1, w :: t, h => by
    have e : clq q (F + 1) (n + 1) (w :: t) = (clq q F n (t.filter (okd q w)) || clq q F (n + 1) t) := rfl
    rw [e, Bool.or_eq_true] at h
    rcases h with h | h
    · obtain ⟨S, s1, s2, s3⟩ := clq_ex q F n _ h
      refine ⟨w :: S, by rw [List.length_cons, s1], fun u hu => ?_, List.Pairwise.cons (fun v hv => ?_) s3⟩
      · rcases List.mem_cons.1 hu with rfl | hu
        · exact List.mem_cons_self ..
        · exact List.mem_cons_of_mem _ (List.mem_filter.1 (s2 u hu)).1
      · exact (List.mem_filter.1 (s2 v hv)).2
    · obtain ⟨S, s1, s2, s3⟩ := clq_ex q F (n + 1) t h
      exact ⟨S, s1, fun u hu => List.mem_cons_of_mem _ (s2 u hu), s3⟩
/-- a prime spoils at most two of places that differ -/
theorem two_bad {f : Fm} (hp : Prim f) {l : Nat} (hl : Pr l) {S : List (Nat × Nat)} (hS : S.Pairwise (fun u v => ¬ (l : Int) ∣ dt u v)) : ∃ S' : List (Nat × Nat), S.length ≤ S'.length + 2 ∧ (∀ u, u ∈ S' → u ∈ S ∧ ¬ (l : Int) ∣ evN f u) ∧ S'.Sublist S := by
  refine ⟨S.filter (fun u => !decide ((l : Int) ∣ evN f u)), ?_, fun u hu => ?_, List.filter_sublist ..⟩
  · have e := flt_split (fun u => decide ((l : Int) ∣ evN f u)) S
    have h2 : (S.filter (fun u => decide ((l : Int) ∣ evN f u))).length ≤ 2 := by
      have hB := hS.sublist (List.filter_sublist (p := fun u => decide ((l : Int) ∣ evN f u)) (l := S))
      have hb : ∀ u, u ∈ S.filter (fun u => decide ((l : Int) ∣ evN f u)) → (l : Int) ∣ evN f u := fun u hu => by
        have := (List.mem_filter.1 hu).2
        simpa using this
      generalize S.filter (fun u => decide ((l : Int) ∣ evN f u)) = B at *
      match B, hB, hb with
      | [], _, _ => exact Nat.zero_le _
      | [_], _, _ => show 1 ≤ 2; decide
      | [_, _], _, _ => exact Nat.le_refl _
      | x :: y :: z :: t, hB, hb =>
        exfalso
        obtain ⟨q1, q2⟩ := List.pairwise_cons.1 hB
        obtain ⟨q3, -⟩ := List.pairwise_cons.1 q2
        rcases bad3 hp hl (hb x (by simp)) (hb y (by simp)) (hb z (by simp)) (q1 y (by simp)) with k | k
        · exact q1 z (by simp) k
        · exact q3 z (by simp) k
    omega
  · obtain ⟨u1, u2⟩ := List.mem_filter.1 hu
    exact ⟨u1, by simpa using u2⟩
theorem many_bad {f : Fm} (hp : Prim f) : ∀ (Lp : List Nat) (S : List (Nat × Nat)), (∀ l, l ∈ Lp → Pr l ∧ S.Pairwise (fun u v => ¬ (l : Int) ∣ dt u v)) → 2 * Lp.length + 1 ≤ S.length → ∃ u, u ∈ S ∧ ∀ l, l ∈ Lp → ¬ (l : Int) ∣ evN f u
  | [], S, _, hlen => by
    obtain ⟨u, hu⟩ := List.exists_mem_of_length_pos (show 0 < S.length by simp at hlen; omega)
    exact ⟨u, hu, fun _ h => by cases h⟩
  | l :: t, S, h, hlen => by
    obtain ⟨h1, h2⟩ := h l (List.mem_cons_self ..)
    obtain ⟨S', s1, s2, s3⟩ := two_bad hp h1 h2
    obtain ⟨u, u1, u2⟩ := many_bad hp t S' (fun l' hl' => ⟨(h l' (List.mem_cons_of_mem _ hl')).1, (h l' (List.mem_cons_of_mem _ hl')).2.sublist s3⟩) (by
      rw [List.length_cons] at hlen
      omega)
    refine ⟨u, (s2 u u1).1, fun l' hl' => ?_⟩
    rcases List.mem_cons.1 hl' with rfl | hl'
    · exact (s2 u u1).2
    · exact u2 l' hl'
theorem cov {f : Fm} (hp : Prim f) {q need : Nat} {Lp : List Nat} (hLp : ∀ l, l ∈ Lp → Pr l ∧ ¬ l ∣ q) (hne : 2 * Lp.length + 1 ≤ need) : ∀ (s : List Nat) (L : List (Nat × Nat)), (∀ l, l ∈ s → Pr l) → (∀ u, u ∈ L → pvN u) → ckS q need s L = true → ∃ u, u ∈ L ∧ ∀ l, l ∈ s ∨ l ∈ Lp → ¬ (l : Int) ∣ evN f u
  | [], L, _, _, h => by
    obtain ⟨S, s1, s2, s3⟩ := clq_ex q 100 need L h
    obtain ⟨u, u1, u2⟩ := many_bad hp Lp S (fun l hl => ⟨(hLp l hl).1, s3.imp (fun {a b} hab z => (hLp l hl).2 (Nat.dvd_trans (Int.ofNat_dvd_left.1 z) (okd_of hab).2))⟩) (by omega)
    refine ⟨u, s2 u u1, fun l hl => ?_⟩
    rcases hl with hl | hl
    · cases hl
    · exact u2 l hl
  | l :: s, L, hs, hL, h => by
    have e : ckS q need (l :: s) L = (Nat.ble 2 (rps l L).length && (prs (rps l L)).all (fun z => ckS q need s (L.filter (fun w => !(eqm l z.1 w) && !(eqm l z.2 w))))) := rfl
    rw [e, Bool.and_eq_true] at h
    obtain ⟨h1, h2⟩ := h
    have hl := hs l (List.mem_cons_self ..)
    have len := Nat.le_of_ble_eq_true h1
    obtain ⟨r1, r2⟩ := rps_mem l L
    have nd := rps_nd l L
    have nd' : (rps l L).Nodup := nd.imp (fun {a b} hab z => hab (by subst z; exact ⟨0, by unfold dt; grind⟩))
    -- the pair of the bad ones
    have key : ∃ u v, u ∈ rps l L ∧ v ∈ rps l L ∧ u ≠ v ∧ ∀ w, w ∈ L → (l : Int) ∣ evN f w → (l : Int) ∣ dt u w ∨ (l : Int) ∣ dt v w := by
      by_cases c : ∃ u, u ∈ rps l L ∧ (l : Int) ∣ evN f u
      · obtain ⟨u, u1, u2⟩ := c
        by_cases c2 : ∃ v, v ∈ rps l L ∧ (l : Int) ∣ evN f v ∧ u ≠ v
        · obtain ⟨v, v1, v2, v3⟩ := c2
          refine ⟨u, v, u1, v1, v3, fun w hw hb => bad3 hp hl u2 v2 hb (fun z => ?_)⟩
          have : ∀ a b, a ∈ rps l L → b ∈ rps l L → a ≠ b → ¬ (l : Int) ∣ dt a b := by
            intro a b ha hb' hne z
            rcases List.pairwise_iff_getElem.1 nd with pw
            obtain ⟨i, hi, rfl⟩ := List.mem_iff_getElem.1 ha
            obtain ⟨j, hj, rfl⟩ := List.mem_iff_getElem.1 hb'
            rcases Nat.lt_trichotomy i j with y | y | y
            · exact pw i j hi hj y z
            · subst y
              exact hne rfl
            · exact pw j i hj hi y (dt_symm z)
          exact this u v u1 v1 v3 z
        · obtain ⟨v, v1, v2⟩ := prs_any _ len nd' u u1
          refine ⟨u, v, u1, v1, v2, fun w hw hb => ?_⟩
          obtain ⟨r, r3, r4⟩ := r2 w hw
          have rb : (l : Int) ∣ evN f r := same_bad hl (hL w hw) (dt_symm r4) hb
          have ru : u = r := by
            by_cases z : u = r
            · exact z
            · exact (c2 ⟨r, r3, rb, z⟩).elim
          subst ru
          exact Or.inl (dt_symm r4)
      · have len1 : 0 < (rps l L).length := by omega
        obtain ⟨u, u1⟩ := List.exists_mem_of_length_pos len1
        obtain ⟨v, v1, v2⟩ := prs_any _ len nd' u u1
        refine ⟨u, v, u1, v1, v2, fun w hw hb => ?_⟩
        obtain ⟨r, r3, r4⟩ := r2 w hw
        exact (c ⟨r, r3, same_bad hl (hL w hw) (dt_symm r4) hb⟩).elim
    obtain ⟨u, v, u1, v1, huv, hbad⟩ := key
    have hall := List.all_eq_true.1 h2
    have fin : ∀ a b : Nat × Nat, (a, b) ∈ prs (rps l L) → (∀ w, w ∈ L → (l : Int) ∣ evN f w → (l : Int) ∣ dt a w ∨ (l : Int) ∣ dt b w) → ∃ u, u ∈ L ∧ ∀ l', l' ∈ l :: s ∨ l' ∈ Lp → ¬ (l' : Int) ∣ evN f u := by
      intro a b hab hbd
      obtain ⟨w, w1, w2⟩ := cov hp hLp hne s _ (fun l' hl' => hs l' (List.mem_cons_of_mem _ hl')) (fun u hu => hL u (List.mem_filter.1 hu).1) (hall (a, b) hab)
      obtain ⟨w3, w4⟩ := List.mem_filter.1 w1
      rw [Bool.and_eq_true] at w4
      refine ⟨w, w3, fun l' hl' => ?_⟩
      have own : ¬ (l : Int) ∣ evN f w := by
        intro z
        rcases hbd w w3 z with y | y
        · have := (eqm_iff l a w).2 y
          have w5 := w4.1
          rw [this] at w5
          cases w5
        · have := (eqm_iff l b w).2 y
          have w5 := w4.2
          rw [this] at w5
          cases w5
      rcases hl' with hl' | hl'
      · rcases List.mem_cons.1 hl' with rfl | hl'
        · exact own
        · exact w2 l' (Or.inl hl')
      · exact w2 l' (Or.inr hl')
    rcases prs_mem _ u v u1 v1 huv with z | z
    · exact fin u v z hbad
    · exact fin v u z (fun w hw hb => (hbad w hw hb).symm)
