/-! how long the tables are -/
theorem row_len {d w x : Int} (m : Nat) (y : Int) (hx : 0 < x.natAbs ∧ x.natAbs ≤ 1000) (s : Int) (hs : ∀ b, gdP d w x b = true → (s ≤ b ∧ b < s + 2 * x.natAbs) ∧ pX x.natAbs (b % (2 * x.natAbs)).toNat = true) : (rowL d w x m y).length ≤ mxR x.natAbs := by
  have h := win_cnt (d := d) hx (l := (rowL d w x m y).map Prod.snd) ?_ s ?_ ?_ ?_
  · rwa [List.length_map] at h
  · rw [List.Nodup, List.pairwise_map]
    refine List.Pairwise.imp_of_mem ?_ (row_asc m y)
    intro p q hp hq hlt z
    have h1 := ((row_mem _ _ p).1 hp).1
    have h2 := ((row_mem _ _ q).1 hq).1
    unfold lt2 at hlt
    omega
  · intro b hb
    obtain ⟨p, hp, rfl⟩ := List.mem_map.1 hb
    obtain ⟨h1, h2, h3, h4⟩ := (row_mem _ _ p).1 hp
    exact (hs p.2 h4).1
  · intro b hb
    obtain ⟨p, hp, rfl⟩ := List.mem_map.1 hb
    obtain ⟨h1, h2, h3, h4⟩ := (row_mem _ _ p).1 hp
    obtain ⟨q, hq⟩ := Int.dvd_of_tmod_eq_zero ((gdP_iff (x, p.2)).1 h4).2.1
    have hq' : p.2 * p.2 - d = 4 * x * q := hq
    rcases Int.natAbs_eq x with z | z
    · exact ⟨q, by rw [hq', ← z]⟩
    · refine ⟨-q, ?_⟩
      rw [hq']
      have e : (x.natAbs : Int) = -x := by omega
      rw [e]
      grind
  · intro b hb
    obtain ⟨p, hp, rfl⟩ := List.mem_map.1 hb
    obtain ⟨h1, h2, h3, h4⟩ := (row_mem _ _ p).1 hp
    exact (hs p.2 h4).2
theorem row_neg {d w x : Int} (hd : d < 0) (hdb : -1048576 ≤ d) (hx : 0 < x ∧ x ≤ 591) (m : Nat) (y : Int) : (rowL d w x m y).length ≤ mxR x.natAbs := by
  refine row_len m y (by omega) (-x + 1) (fun b hb => ?_)
  obtain ⟨g1, g2, g3, g4, g5⟩ := gd_neg (p := (x, b)) hd hb
  simp only at g1 g2 g3 g4 g5
  have ea : (x.natAbs : Int) = x := by omega
  refine ⟨by omega, (pX_iff _ _).2 ?_⟩
  rw [ea]
  obtain ⟨r, hr⟩ : ∃ r, (b % (2 * x)).toNat = r := ⟨_, rfl⟩
  rw [hr]
  have hr2 : (0 ≤ b ∧ (r : Int) = b) ∨ (b < 0 ∧ (r : Int) = b + 2 * x) := by
    rcases Int.lt_or_le b 0 with z | z
    · refine Or.inr ⟨z, ?_⟩
      have : b % (2 * x) = b + 2 * x := by
        rw [← Int.add_mul_emod_self_left b (2 * x) 1, Int.mul_one]
        exact Int.emod_eq_of_lt (by omega) (by omega)
      omega
    · refine Or.inl ⟨z, ?_⟩
      have : b % (2 * x) = b := Int.emod_eq_of_lt z (by omega)
      omega
  clear hr
  have k1 : b.natAbs ≤ r := by omega
  have k2 : b.natAbs ≤ 2 * x.natAbs - r := by rcases hr2 with z | z <;> omega
  have m1 := Nat.mul_le_mul k1 k1
  have m2 := Nat.mul_le_mul k2 k2
  have m3 : 4 * (x.natAbs * x.natAbs) ≤ b.natAbs * b.natAbs + 1048576 := by
    have e1 : ((x.natAbs * x.natAbs : Nat) : Int) = x * x := by rw [Int.natCast_mul]; exact abs_sq x
    have e2 : ((b.natAbs * b.natAbs : Nat) : Int) = b * b := by rw [Int.natCast_mul]; exact abs_sq b
    clear m1 m2
    generalize x.natAbs * x.natAbs = X at e1 ⊢
    generalize b.natAbs * b.natAbs = Y at e2 ⊢
    omega
  exact ⟨by omega, by omega, by omega⟩
theorem row_pos {d w x : Int} (hd : 0 < d) (hx : -512 ≤ x ∧ x ≤ 512) (m : Nat) (y : Int) : (rowL d w x m y).length ≤ mxR x.natAbs := by
  by_cases h0 : x = 0
  · subst h0
    rw [row_zero]
    exact Nat.zero_le _
  · refine row_len m y (by omega) (w - 2 * x.natAbs + 1) (fun b hb => ?_)
    obtain ⟨g1, g2, g3, g4⟩ := gd_pos (p := (x, b)) hd hb
    simp only at g1 g2 g3 g4
    refine ⟨by omega, (pX_iff _ _).2 ?_⟩
    have e1 : 0 ≤ b % (2 * (x.natAbs : Int)) := Int.emod_nonneg _ (by omega)
    have e2 : b % (2 * (x.natAbs : Int)) < 2 * (x.natAbs : Int) := Int.emod_lt_of_pos _ (by omega)
    have m1 : x.natAbs * x.natAbs ≤ 512 * 512 := Nat.mul_le_mul (by omega) (by omega)
    exact ⟨by omega, Nat.le_trans (by omega) (Nat.le_add_left 1048576 _), Nat.le_trans (by omega) (Nat.le_add_left 1048576 _)⟩
noncomputable def csum : Nat → Int → Nat
  | 0, _ => 0
  | m + 1, x => mxR x.natAbs + csum m (x + 1)
theorem csum_succ (m : Nat) (x : Int) : csum (m + 1) x = mxR x.natAbs + csum m (x + 1) := rfl
theorem csum_add : ∀ (m n : Nat) (x : Int), csum (m + n) x = csum m x + csum n (x + m)
  | 0, n, x => by
    rw [Nat.zero_add, show x + ((0 : Nat) : Int) = x by omega]
    exact (Nat.zero_add _).symm
  | m + 1, n, x => by
    rw [show m + 1 + n = (m + n) + 1 by omega]
    show mxR x.natAbs + csum (m + n) (x + 1) = mxR x.natAbs + csum m (x + 1) + csum n (x + ((m + 1 : Nat) : Int))
    rw [csum_add m n (x + 1), Nat.add_assoc, show x + ((m + 1 : Nat) : Int) = x + 1 + m by omega]
theorem sRw_cons (lo m : Nat) : sRw lo (m + 1) = mxR lo + sRw (lo + 1) m := by
  rw [Nat.add_comm m 1, sRw_add lo 1 m]
  have : sRw lo 1 = mxR lo := Nat.zero_add _
  rw [this]
theorem sRw_succ (lo m : Nat) : sRw lo (m + 1) = sRw lo m + mxR (lo + m) := rfl
theorem csum_pos : ∀ (m lo : Nat), csum m (lo : Int) = sRw lo m
  | 0, _ => rfl
  | m + 1, lo => by
    rw [sRw_cons]
    show mxR (lo : Int).natAbs + csum m ((lo : Int) + 1) = _
    have := csum_pos m (lo + 1)
    rw [show ((lo + 1 : Nat) : Int) = (lo : Int) + 1 from rfl] at this
    rw [this, Int.natAbs_natCast]
theorem csum_neg : ∀ m : Nat, csum m (-(m : Int)) = sRw 1 m
  | 0 => rfl
  | m + 1 => by
    rw [sRw_succ]
    show mxR (-((m + 1 : Nat) : Int)).natAbs + csum m (-((m + 1 : Nat) : Int) + 1) = _
    rw [show -((m + 1 : Nat) : Int) + 1 = -(m : Int) by omega, csum_neg m, show (-((m + 1 : Nat) : Int)).natAbs = 1 + m by omega, Nat.add_comm]
theorem col_len {d w : Int} {P : Int → Prop} (hrow : ∀ (x : Int) (m : Nat) (y : Int), P x → (rowL d w x m y).length ≤ mxR x.natAbs) : ∀ (m : Nat) (x : Int), (∀ i : Nat, i < m → P (x + i)) → (colL d w m x).length ≤ csum m x
  | 0, _, _ => Nat.le_refl _
  | m + 1, x, h => by
    show (rowL d w x (yHi d w x + 1 - yLo d x).toNat (yLo d x) ++ colL d w m (x + 1)).length ≤ mxR x.natAbs + csum m (x + 1)
    rw [List.length_append]
    refine Nat.add_le_add (hrow _ _ _ ?_) (col_len hrow m (x + 1) (fun i hi => ?_))
    · have := h 0 (by omega)
      rwa [show x + ((0 : Nat) : Int) = x by omega] at this
    · have := h (i + 1) (by omega)
      rwa [show x + ((i + 1 : Nat) : Int) = x + 1 + i by omega] at this
theorem sRw_mono (lo : Nat) {m n : Nat} (h : m ≤ n) : sRw lo m ≤ sRw lo n := by
  obtain ⟨k, rfl⟩ := Nat.exists_eq_add_of_le h
  rw [sRw_add]
  exact Nat.le_add_right _ _
/-- below 0 there are at most 3955 forms -/
theorem len_neg {d w e : Int} (hd : d < 0) (hdb : -1048576 ≤ d) (he : mlP d w e) : (mfL d w e).length ≤ 3955 := by
  rcases he with ⟨-, e0, e1, e2⟩ | ⟨z, -⟩
  · have h3 : (-d).tdiv 3 = (-d) / 3 := Int.tdiv_eq_ediv_of_nonneg (by omega)
    rw [h3] at e1
    have e3 : e ≤ 591 := by
      rcases Int.lt_or_le 591 e with z | z
      · have := sq_le (x := 592) (y := e) (by decide) (by omega)
        omega
      · exact z
    have em : mfL d w e = colL d w e.toNat 1 := if_pos hd
    rw [em]
    refine Nat.le_trans (col_len (P := fun x => 0 < x ∧ x ≤ 591) (fun x m y hx => row_neg hd hdb hx m y) e.toNat 1 (fun i hi => ⟨by omega, by omega⟩)) ?_
    have := csum_pos e.toNat 1
    rw [show ((1 : Nat) : Int) = 1 from rfl] at this
    rw [this]
    exact Nat.le_trans (sRw_mono 1 (by omega)) sS_18
  · omega
/-- the forms with a small first number -/
def FL (d w : Int) : List pI := colL d w 1025 (-512)
theorem FL_mem {d w : Int} (hd : 0 < d) (p : pI) : p ∈ FL d w ↔ (-512 ≤ p.1 ∧ p.1 ≤ 512) ∧ gdP d w p.1 p.2 = true := by
  unfold FL
  rw [col_mem]
  constructor
  · rintro ⟨h1, h2, -, -, h5⟩
    exact ⟨by omega, h5⟩
  · rintro ⟨h1, h2⟩
    obtain ⟨g1, g2, g3, g4⟩ := gd_pos hd h2
    have hlo : yLo d p.1 = 1 := if_neg (by omega)
    have hhi : yHi d w p.1 = w := if_neg (by omega)
    rw [hlo, hhi]
    exact ⟨by omega, by omega, by omega, by omega, h2⟩
theorem mxR_0 : mxR 0 = 0 := by decide +kernel
theorem FL_len {d w : Int} (hd : 0 < d) : (FL d w).length ≤ 7270 := by
  refine Nat.le_trans (col_len (P := fun x => -512 ≤ x ∧ x ≤ 512) (fun x m y hx => row_pos hd hx m y) 1025 (-512) (fun i hi => ⟨by omega, by omega⟩)) ?_
  have h1 := csum_add 512 (512 + 1) (-512)
  have h2 := csum_neg 512
  have h3 := csum_succ 512 0
  rw [show (0 : Int).natAbs = 0 from rfl, show (0 : Int) + 1 = 1 from rfl] at h3
  have h4 := csum_pos 512 1
  rw [show ((1 : Nat) : Int) = 1 from rfl] at h4
  have h5 := sS_15
  have h6 := mxR_0
  rw [show (-512 : Int) + ((512 : Nat) : Int) = 0 from rfl, h3, h4] at h1
  rw [show -((512 : Nat) : Int) = -512 from rfl] at h2
  rw [h2] at h1
  refine Nat.le_trans (Nat.le_of_eq h1) ?_
  omega
theorem red_small {d : Int} (hd : 0 < d) (hdb : d ≤ 1048576) {f : Fm} (hD : dF f = d) (hr : Red f) : f.1.natAbs ≤ 512 ∨ f.2.2.natAbs ≤ 512 := by
  obtain ⟨a, b, c⟩ := f
  obtain ⟨r1, r2, -⟩ := hr
  simp only at r1 r2
  have hD' : b * b - 4 * a * c = d := hD
  rcases Nat.lt_or_ge 512 a.natAbs with z | z
  · rcases Nat.lt_or_ge 512 c.natAbs with y | y
    · exfalso
      have m : 513 * 513 ≤ a.natAbs * c.natAbs := Nat.mul_le_mul z y
      have e : ((a.natAbs * c.natAbs : Nat) : Int) = -(a * c) := by
        rw [← Int.natAbs_mul]
        omega
      have e2 : 4 * a * c = 4 * (a * c) := by grind
      have := sqn b
      omega
    · exact Or.inr y
  · exact Or.inl z
theorem flt_split {α : Type} (p : α → Bool) : ∀ l : List α, l.length = (l.filter p).length + (l.filter (fun x => !p x)).length
  | [] => rfl
  | x :: t => by
    have ih := flt_split p t
    cases h : p x with
    | true =>
      rw [List.filter_cons_of_pos h, List.filter_cons_of_neg (by rw [h]; decide)]
      show t.length + 1 = (t.filter p).length + 1 + _
      omega
    | false =>
      rw [List.filter_cons_of_neg (by rw [h]; decide), List.filter_cons_of_pos (by rw [h]; decide)]
      show t.length + 1 = (t.filter p).length + ((t.filter (fun x => !p x)).length + 1)
      omega
/-- the next place -/
def nxP (d w : Int) (p : pI) : pI := k2 (nx d w (fmP d p))
theorem nxP_gd {d w : Int} (hn : nsq d) (hd : 0 < d) (hw : isWd d w) {p : pI} (h : gdP d w p.1 p.2 = true) : gdP d w (nxP d w p).1 (nxP d w p).2 = true ∧ fmP d (nxP d w p) = nx d w (fmP d p) := by
  obtain ⟨v1, v2, v3⟩ := gd_vld h
  have r := (rdF_red hn hd hw v1.1).1 v2
  have v4 := nx_vld (w := w) hn v1
  exact vld_gd hn v4 ((rdF_red hn hd hw v4.1).2 (nx_red hn hd hw v1.1 r))
theorem nxP_inj {d w : Int} (hn : nsq d) (hd : 0 < d) (hw : isWd d w) {p q : pI} (h : gdP d w p.1 p.2 = true) (h' : gdP d w q.1 q.2 = true) (e : nxP d w p = nxP d w q) : p = q := by
  obtain ⟨v1, v2, v3⟩ := gd_vld h
  obtain ⟨u1, u2, u3⟩ := gd_vld h'
  have e1 := (nxP_gd hn hd hw h).2
  have e2 := (nxP_gd hn hd hw h').2
  have := nx_inj hn hd hw v1.1 u1.1 ((rdF_red hn hd hw v1.1).1 v2) ((rdF_red hn hd hw u1.1).1 u2) (by rw [← e1, ← e2, e])
  exact congrArg k2 this
/-- above 0 there are at most 14540 forms -/
theorem len_pos {d w : Int} (hn : nsq d) (hd : 0 < d) (hdb : d ≤ 1048576) (hw : isWd d w) : (mfL d w w).length ≤ 14540 := by
  have mem : ∀ p, p ∈ mfL d w w ↔ gdP d w p.1 p.2 = true := fun p => mf_mem (Or.inr ⟨hd, hw⟩) (Or.inr ⟨hd, rfl⟩) p
  have nd := lt2_nd (mf_asc d w w)
  have hF := FL_len (w := w) hd
  rw [flt_split (fun p : pI => decide (p.1.natAbs ≤ 512)) (mfL d w w)]
  have h1 := len_sub ((mfL d w w).filter (fun p : pI => decide (p.1.natAbs ≤ 512))) (FL d w) (nd.filter _) (fun p hp => by
    obtain ⟨a1, a2⟩ := List.mem_filter.1 hp
    rw [decide_eq_true_eq] at a2
    exact (FL_mem hd p).2 ⟨by omega, (mem p).1 a1⟩)
  have h2 := len_sub (((mfL d w w).filter (fun p : pI => !decide (p.1.natAbs ≤ 512))).map (nxP d w)) (FL d w) (by
    rw [List.Nodup, List.pairwise_map]
    refine List.Pairwise.imp_of_mem ?_ (nd.filter _)
    intro p q hp hq hne e
    exact hne (nxP_inj hn hd hw ((mem p).1 (List.mem_filter.1 hp).1) ((mem q).1 (List.mem_filter.1 hq).1) e)) (fun q hq => by
    obtain ⟨p, hp, rfl⟩ := List.mem_map.1 hq
    obtain ⟨a1, a2⟩ := List.mem_filter.1 hp
    have hg := (mem p).1 a1
    obtain ⟨v1, v2, v3⟩ := gd_vld hg
    have sm := red_small hd hdb v1.1 ((rdF_red hn hd hw v1.1).1 v2)
    have a3 : ¬ p.1.natAbs ≤ 512 := by simpa using a2
    have a4 : (fmP d p).2.2.natAbs ≤ 512 := sm.resolve_left a3
    have a5 : (nxP d w p).1 = (fmP d p).2.2 := rfl
    exact (FL_mem hd _).2 ⟨by rw [a5]; omega, (nxP_gd hn hd hw hg).1⟩)
  rw [List.length_map] at h2
  omega
