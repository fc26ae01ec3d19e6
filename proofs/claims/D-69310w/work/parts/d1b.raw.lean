/-! the list of forms as the house makes it: members, no repetition -/
def k2 (f : Fm) : pI := (f.1, f.2.1)
def ne2 (f g : Fm) : Prop := k2 f ≠ k2 g
theorem ofFs_mem {d : Int} {f g : Fm} (h : g ∈ ofFs d f) : g.1 * g.2.2 = f.1 * f.2.2 ∧ g.1.natAbs = f.1.natAbs ∧ g.2.1.natAbs = f.2.1.natAbs := by
  unfold ofFs at h
  split at h
  · split at h
    · rcases List.mem_cons.1 h with rfl | h
      · exact ⟨rfl, rfl, rfl⟩
      · rw [List.mem_singleton] at h
        subst h
        exact ⟨rfl, rfl, Int.natAbs_neg _⟩
    · rw [List.mem_singleton] at h
      subst h
      exact ⟨rfl, rfl, rfl⟩
  · rcases List.mem_cons.1 h with rfl | h
    · exact ⟨rfl, rfl, rfl⟩
    · rw [List.mem_singleton] at h
      subst h
      exact ⟨by show -f.1 * -f.2.2 = _; grind, Int.natAbs_neg _, rfl⟩
theorem pair_two {α : Type} {R : α → α → Prop} {a b : α} (h : R a b) : [a, b].Pairwise R := List.Pairwise.cons (fun x hx => by
  rw [List.mem_singleton] at hx
  subst hx
  exact h) (List.pairwise_singleton _ _)
theorem ofFs_nd {d : Int} {f : Fm} (h : f.1 ≠ 0) : (ofFs d f).Pairwise ne2 := by
  unfold ofFs
  split
  · split
    · rename_i hb
      refine pair_two (fun z => ?_)
      have : f.2.1 = -f.2.1 := congrArg Prod.snd z
      omega
    · exact List.pairwise_singleton _ _
  · refine pair_two (fun z => ?_)
    have : f.1 = -f.1 := congrArg Prod.fst z
    omega
theorem ptF_mem {d b n : Int} {i : Nat} {g : Fm} (h : g ∈ ptF d b n i) : g.1 * g.2.2 = n ∧ g.2.1.natAbs = b.natAbs ∧ (i + 1) * (i + 1) ≤ n.natAbs ∧ (g.1.natAbs = i + 1 ∨ g.1.natAbs * (i + 1) = n.natAbs) := by
  unfold ptF at h
  split at h
  · rename_i c
    obtain ⟨c1, c2⟩ := c
    have c1' : (i + 1) * (i + 1) ≤ n.natAbs := by
      have : (((i + 1) * (i + 1) : Nat) : Int) ≤ (n.natAbs : Int) := by
        rw [Int.natCast_mul]
        exact c1
      omega
    have c2' : i + 1 ∣ n.natAbs := Int.natCast_dvd_natCast.1 (Int.dvd_of_emod_eq_zero c2)
    obtain ⟨q, hq⟩ := id c2'
    have e : (n.natAbs : Int) / ((i : Int) + 1) = q := by
      have : (n.natAbs : Int) = ((i : Int) + 1) * q := by
        rw [hq, Int.natCast_mul]
        rfl
      rw [this, Int.mul_ediv_cancel_left _ (by omega)]
    rw [e] at h
    rcases List.mem_append.1 h with h | h
    · obtain ⟨a1, a2, a3⟩ := ofFs_mem h
      have dv : ((i : Int) + 1) ∣ n := Int.ofNat_dvd_left.2 c2'
      refine ⟨a1.trans (Int.mul_tdiv_cancel' dv), a3, c1', Or.inl ?_⟩
      rw [a2]
      show ((i : Int) + 1).natAbs = i + 1
      omega
    · split at h
      · cases h
      · obtain ⟨a1, a2, a3⟩ := ofFs_mem h
        have dv : (q : Int) ∣ n := Int.ofNat_dvd_left.2 ⟨i + 1, by rw [hq, Nat.mul_comm]⟩
        refine ⟨a1.trans (Int.mul_tdiv_cancel' dv), a3, c1', Or.inr ?_⟩
        rw [a2]
        show (q : Int).natAbs * (i + 1) = n.natAbs
        rw [Int.natAbs_natCast, hq, Nat.mul_comm]
  · cases h
theorem ptF_nd (d b n : Int) (i : Nat) : (ptF d b n i).Pairwise ne2 := by
  unfold ptF
  split
  · rename_i c
    obtain ⟨c1, c2⟩ := c
    have c2' : i + 1 ∣ n.natAbs := Int.natCast_dvd_natCast.1 (Int.dvd_of_emod_eq_zero c2)
    obtain ⟨q, hq⟩ := id c2'
    have e : (n.natAbs : Int) / ((i : Int) + 1) = q := by
      have : (n.natAbs : Int) = ((i : Int) + 1) * q := by
        rw [hq, Int.natCast_mul]
        rfl
      rw [this, Int.mul_ediv_cancel_left _ (by omega)]
    rw [e, List.pairwise_append]
    refine ⟨ofFs_nd (by show ((i : Int) + 1) ≠ 0; omega), ?_, fun f hf g hg => ?_⟩
    · split
      · exact List.Pairwise.nil
      · refine ofFs_nd ?_
        show (q : Int) ≠ 0
        intro z
        have : q = 0 := by omega
        subst this
        rw [hq, Nat.mul_zero] at c1
        have := Int.mul_pos (a := (i : Int) + 1) (b := (i : Int) + 1) (by omega) (by omega)
        simp only [Int.natCast_zero] at c1
        omega
    · split at hg
      · cases hg
      · rename_i hne
        intro z
        have z1 : (k2 f).1 = (k2 g).1 := congrArg Prod.fst z
        have z1 : f.1 = g.1 := z1
        have a2 := (ofFs_mem hf).2.1
        have b2 := (ofFs_mem hg).2.1
        rw [z1, b2] at a2
        have : q = i + 1 := by
          have a3 : (q : Int).natAbs = ((i : Int) + 1).natAbs := a2
          omega
        apply hne
        rw [hq, this, Int.natCast_mul]
        rfl
  · exact List.Pairwise.nil
theorem ptF_ne {d b n : Int} {i j : Nat} (hij : i < j) {f g : Fm} (hf : f ∈ ptF d b n i) (hg : g ∈ ptF d b n j) : ne2 f g := by
  intro z
  have z1 : (k2 f).1 = (k2 g).1 := congrArg Prod.fst z
  have z1 : f.1 = g.1 := z1
  obtain ⟨-, -, a1, a2⟩ := ptF_mem hf
  obtain ⟨-, -, b1, b2⟩ := ptF_mem hg
  rw [z1] at a2
  obtain ⟨k, hk⟩ : ∃ k, g.1.natAbs = k := ⟨_, rfl⟩
  rw [hk] at a2 b2
  have m1 : (i + 1) * (j + 1) < (j + 1) * (j + 1) := Nat.mul_lt_mul_of_pos_right (by omega) (by omega)
  rcases a2 with rfl | a2
  · rcases b2 with b2 | b2
    · omega
    · omega
  · rcases b2 with rfl | b2
    · rw [Nat.mul_comm] at a2
      omega
    · have hk0 : 0 < k := by
        rcases Nat.eq_zero_or_pos k with y | y
        · subst y
          rw [Nat.zero_mul] at b2
          have := Nat.mul_pos (n := j + 1) (m := j + 1) (by omega) (by omega)
          omega
        · exact y
      have := Nat.eq_of_mul_eq_mul_left hk0 (a2.trans b2.symm)
      omega
theorem ptN_mem {d b n : Int} {g : Fm} : ∀ m, g ∈ ptN d b n m ↔ ∃ i, i < m ∧ g ∈ ptF d b n i
  | 0 => by
    show g ∈ ([] : List Fm) ↔ _
    constructor
    · intro h
      cases h
    · rintro ⟨i, h, -⟩
      omega
  | m + 1 => by
    show g ∈ ptN d b n m ++ ptF d b n m ↔ _
    rw [List.mem_append, ptN_mem m]
    constructor
    · rintro (⟨i, h, h'⟩ | h)
      · exact ⟨i, by omega, h'⟩
      · exact ⟨m, by omega, h⟩
    · rintro ⟨i, h, h'⟩
      by_cases c : i = m
      · subst c
        exact Or.inr h'
      · exact Or.inl ⟨i, by omega, h'⟩
theorem ptN_nd (d b n : Int) : ∀ m, (ptN d b n m).Pairwise ne2
  | 0 => List.Pairwise.nil
  | m + 1 => by
    show (ptN d b n m ++ ptF d b n m).Pairwise ne2
    rw [List.pairwise_append]
    refine ⟨ptN_nd d b n m, ptF_nd d b n m, fun f hf g hg => ?_⟩
    obtain ⟨i, h, h'⟩ := (ptN_mem m).1 hf
    exact ptF_ne h h' hg
theorem flF_mem {d : Int} {g : Fm} : ∀ (k : Nat) (b : Int), g ∈ flF d k b ↔ ∃ j : Nat, j < k ∧ 0 ≤ b - 2 * j ∧ g ∈ ptFs d (b - 2 * j)
  | 0, b => by
    show g ∈ ([] : List Fm) ↔ _
    constructor
    · intro h
      cases h
    · rintro ⟨i, h, -⟩
      omega
  | k + 1, b => by
    show g ∈ (if b < 0 then [] else ptFs d b ++ flF d k (b - 2)) ↔ _
    by_cases c : b < 0
    · rw [if_pos c]
      constructor
      · intro h
        cases h
      · rintro ⟨i, h, h', -⟩
        omega
    · rw [if_neg c, List.mem_append, flF_mem k (b - 2)]
      constructor
      · rintro (h | ⟨j, h1, h2, h3⟩)
        · exact ⟨0, by omega, by omega, by rw [show b - 2 * ((0 : Nat) : Int) = b by omega]; exact h⟩
        · exact ⟨j + 1, by omega, by omega, by rw [show b - 2 * ((j + 1 : Nat) : Int) = b - 2 - 2 * j by omega]; exact h3⟩
      · rintro ⟨j, h1, h2, h3⟩
        cases j with
        | zero =>
          rw [show b - 2 * ((0 : Nat) : Int) = b by omega] at h3
          exact Or.inl h3
        | succ j =>
          rw [show b - 2 * ((j + 1 : Nat) : Int) = b - 2 - 2 * j by omega] at h3
          exact Or.inr ⟨j, by omega, by omega, h3⟩
theorem ptFs_mem {d b : Int} {g : Fm} (h : g ∈ ptFs d b) : g.1 * g.2.2 = bN d b ∧ g.2.1.natAbs = b.natAbs := by
  obtain ⟨i, -, h'⟩ := (ptN_mem 1100).1 h
  have := ptF_mem h'
  exact ⟨this.1, this.2.1⟩
theorem flF_nd (d : Int) : ∀ (k : Nat) (b : Int), (flF d k b).Pairwise ne2
  | 0, _ => List.Pairwise.nil
  | k + 1, b => by
    show (if b < 0 then [] else ptFs d b ++ flF d k (b - 2)).Pairwise ne2
    by_cases c : b < 0
    · rw [if_pos c]
      exact List.Pairwise.nil
    · rw [if_neg c, List.pairwise_append]
      refine ⟨ptN_nd _ _ _ _, flF_nd d k (b - 2), fun f hf g hg z => ?_⟩
      obtain ⟨j, j1, j2, j3⟩ := (flF_mem k (b - 2)).1 hg
      have a := (ptFs_mem hf).2
      have b' := (ptFs_mem j3).2
      have z1 : f.2.1 = g.2.1 := congrArg Prod.snd z
      rw [z1] at a
      omega
theorem raw_nd (d w m : Int) : (rawL d w m).Nodup := by
  unfold rawL gdL
  rw [List.Nodup, List.pairwise_map]
  exact (flF_nd d 600 (b0E d m)).filter _
theorem bN_4 {d b : Int} (hdd : isDd d) (hb : b % 2 = d % 2) : 4 * bN d b = b * b - d := by
  unfold bN
  refine Int.mul_tdiv_cancel' ?_
  unfold isDd at hdd
  obtain ⟨k, hk⟩ : ∃ k, b = 2 * k + d % 2 := ⟨b / 2, by omega⟩
  have h2 : d % 2 = 0 ∨ d % 2 = 1 := by omega
  rcases h2 with z | z
  · have e : b * b = 4 * (k * k) := by
      rw [hk, z]
      grind
    omega
  · have e : b * b = 4 * (k * k + k) + 1 := by
      rw [hk, z]
      grind
    omega
theorem b0E_par {d m : Int} (hm : 0 ≤ m) : b0E d m % 2 = d % 2 ∧ (b0E d m = m ∨ (b0E d m = m - 1 ∧ m % 2 ≠ d % 2)) := by
  unfold b0E
  have : m.tmod 2 = m % 2 := Int.tmod_eq_emod_of_nonneg hm
  rw [this]
  split
  · rename_i h
    exact ⟨h, Or.inl rfl⟩
  · rename_i h
    exact ⟨by omega, Or.inr ⟨rfl, h⟩⟩
theorem sq_parI {d a b c : Int} (h : b * b - 4 * a * c = d) : b % 2 = d % 2 := by
  have e : 4 * a * c = 4 * (a * c) := by grind
  obtain ⟨k, hk⟩ : ∃ k, b = 2 * k + b % 2 := ⟨b / 2, by omega⟩
  have h2 : b % 2 = 0 ∨ b % 2 = 1 := by omega
  rcases h2 with z | z
  · have e : b * b = 4 * (k * k) := by
      rw [hk, z]
      grind
    omega
  · have e : b * b = 4 * (k * k + k) + 1 := by
      rw [hk, z]
      grind
    omega
theorem of_in {d : Int} {p : pI} {c : Int} (hd0 : d ≠ 0) (h1 : d < 0 → 0 < p.1) (h2 : 0 < d → 0 < p.2) (h0 : p.1 ≠ 0) : (p.1, p.2, c) ∈ ofFs d ((p.1.natAbs : Int), (p.2.natAbs : Int), (p.1 * c).tdiv p.1.natAbs) := by
  obtain ⟨x, y⟩ := p
  simp only at h0 h1 h2 ⊢
  unfold ofFs
  rcases Int.lt_or_le d 0 with hd | hd
  · rw [if_pos hd]
    have hx := h1 hd
    have e : (x.natAbs : Int) = x := by omega
    rw [e, Int.mul_tdiv_cancel_left _ (by omega)]
    simp only
    split
    · rcases Int.lt_or_le y 0 with hy | hy
      · have e2 : (y.natAbs : Int) = -y := by omega
        rw [e2, Int.neg_neg]
        exact List.mem_cons_of_mem _ (List.mem_cons_self ..)
      · have e2 : (y.natAbs : Int) = y := by omega
        rw [e2]
        exact List.mem_cons_self ..
    · have e2 : (y.natAbs : Int) = y := by omega
      rw [e2]
      exact List.mem_cons_self ..
  · rw [if_neg (by omega)]
    have hy := h2 (by omega)
    have e2 : (y.natAbs : Int) = y := by omega
    rw [e2]
    simp only
    rcases Int.lt_or_le x 0 with hx | hx
    · have e : (x.natAbs : Int) = -x := by omega
      have e3 : x * c = -x * (-c) := by grind
      rw [e, e3, Int.mul_tdiv_cancel_left _ (by omega), Int.neg_neg, Int.neg_neg]
      exact List.mem_cons_of_mem _ (List.mem_cons_self ..)
    · have e : (x.natAbs : Int) = x := by omega
      rw [e, Int.mul_tdiv_cancel_left _ (by omega)]
      exact List.mem_cons_self ..
theorem pt_in {d : Int} {p : pI} {c : Int} (hd0 : d ≠ 0) (h1 : d < 0 → 0 < p.1) (h2 : 0 < d → 0 < p.2) (h0 : p.1 ≠ 0) (hc : c ≠ 0) (hb : p.1.natAbs ≤ 1024) (hn : bN d p.2.natAbs = p.1 * c) : (p.1, p.2, c) ∈ ptFs d p.2.natAbs := by
  have key := of_in (c := c) hd0 h1 h2 h0
  unfold ptFs
  rw [hn, ptN_mem]
  have hab : (p.1 * c).natAbs = p.1.natAbs * c.natAbs := Int.natAbs_mul _ _
  rcases Nat.lt_or_ge c.natAbs p.1.natAbs with z | z
  · obtain ⟨i, hi⟩ : ∃ i, c.natAbs = i + 1 := ⟨c.natAbs - 1, by omega⟩
    refine ⟨i, by omega, ?_⟩
    unfold ptF
    have e1 : ((p.1 * c).natAbs : Int) = (p.1.natAbs : Int) * ((i : Int) + 1) := by
      rw [hab, hi, Int.natCast_mul]
      rfl
    have lt : ((i : Int) + 1) * ((i : Int) + 1) < (p.1.natAbs : Int) * ((i : Int) + 1) := Int.mul_lt_mul_of_pos_right (by omega) (by omega)
    rw [e1, if_pos ⟨by omega, Int.mul_emod_left _ _⟩, if_neg (by omega), Int.mul_ediv_cancel _ (by omega)]
    exact List.mem_append_right _ key
  · obtain ⟨i, hi⟩ : ∃ i, p.1.natAbs = i + 1 := ⟨p.1.natAbs - 1, by omega⟩
    refine ⟨i, by omega, ?_⟩
    unfold ptF
    have e0 : (p.1.natAbs : Int) = (i : Int) + 1 := by omega
    have e1 : ((p.1 * c).natAbs : Int) = ((i : Int) + 1) * (c.natAbs : Int) := by
      rw [hab, hi, Int.natCast_mul]
      rfl
    have le : ((i : Int) + 1) * ((i : Int) + 1) ≤ ((i : Int) + 1) * (c.natAbs : Int) := Int.mul_le_mul_of_nonneg_left (by omega) (by omega)
    rw [e1, if_pos ⟨le, Int.mul_emod_right _ _⟩]
    rw [e0] at key
    exact List.mem_append_left _ key
theorem raw_mem {d w m : Int} (hn : nsq d) (hdd : isDd d) (hdb : -1048576 ≤ d ∧ d ≤ 1048576) (hw4 : w ≤ 1024) (hm : mostP d w m) (hm4 : m ≤ 1024) (p : pI) : p ∈ rawL d w m ↔ gdP d w p.1 p.2 = true := by
  have hd0 : d ≠ 0 := fun z => hn 0 (by rw [z]; rfl)
  have hm0 : 0 ≤ m := by
    rcases hm with z | z
    · exact z.2.2
    · exact z.2.1
  obtain ⟨p1, p2⟩ := b0E_par (d := d) hm0
  unfold rawL gdL
  rw [List.mem_map]
  constructor
  · rintro ⟨g, hg, rfl⟩
    obtain ⟨g1, g2⟩ := List.mem_filter.1 hg
    obtain ⟨j, j1, j2, j3⟩ := (flF_mem _ _).1 g1
    obtain ⟨a1, a2⟩ := ptFs_mem j3
    have hp : (b0E d m - 2 * (j : Int)) % 2 = d % 2 := by omega
    have h4 := bN_4 hdd hp
    have hsq : g.2.1 * g.2.1 = (b0E d m - 2 * (j : Int)) * (b0E d m - 2 * (j : Int)) := by
      rw [← abs_sq g.2.1, ← abs_sq (b0E d m - 2 * (j : Int)), a2]
    have hD : dF g = d := by
      have e : 4 * g.1 * g.2.2 = 4 * (g.1 * g.2.2) := by grind
      show g.2.1 * g.2.1 - 4 * g.1 * g.2.2 = d
      rw [e, a1, hsq, h4]
      omega
    unfold gdF at g2
    rw [Bool.and_eq_true, decide_eq_true_eq] at g2
    have h0 := nsq_1 hn hD
    obtain ⟨e1, e2⟩ := fmP_of hD h0
    refine (gdP_iff (g.1, g.2.1)).2 ⟨h0, e2, ?_, ?_⟩
    · rw [e1]
      exact g2.1
    · rw [e1]
      exact g2.2
  · intro h
    obtain ⟨v1, v2, v3⟩ := gd_vld h
    have hD := v1.1
    refine ⟨fmP d p, List.mem_filter.2 ⟨?_, ?_⟩, rfl⟩
    · have hD' : p.2 * p.2 - 4 * p.1 * (fmP d p).2.2 = d := hD
      have par := sq_parI hD'
      have hb : p.1.natAbs ≤ 1024 ∧ (p.2.natAbs : Int) ≤ m ∧ (0 < d → 0 < p.2) := by
        rcases hm with ⟨m1, m2, m3⟩ | ⟨m1, m2, m3, m4⟩
        · obtain ⟨g1, g2, g3, g4⟩ := gd_pos m1 h
          exact ⟨by omega, by omega, fun _ => g1⟩
        · obtain ⟨g1, g2, g3, g4, g5⟩ := gd_neg m1 h
          have h5 : p.1 < m + 1 := lt_of_sq (by omega) (by
            have : 3 * (m + 1) * (m + 1) = 3 * ((m + 1) * (m + 1)) := by grind
            omega)
          exact ⟨by omega, by omega, fun _ => by omega⟩
      obtain ⟨hb1, hb2, hb3⟩ := hb
      have hj : b0E d m - 2 * (((b0E d m - p.2.natAbs) / 2).toNat : Int) = p.2.natAbs := by
        have : (p.2.natAbs : Int) % 2 = d % 2 := by omega
        omega
      refine (flF_mem _ _).2 ⟨((b0E d m - p.2.natAbs) / 2).toNat, by omega, by omega, ?_⟩
      rw [hj]
      refine pt_in hd0 v1.2.2 hb3 v3 (nsq_3 hn hD) hb1 ?_
      have h4 := bN_4 (b := (p.2.natAbs : Int)) hdd (by omega)
      rw [abs_sq] at h4
      have e : 4 * p.1 * (fmP d p).2.2 = 4 * (p.1 * (fmP d p).2.2) := by grind
      show bN d p.2.natAbs = p.1 * (fmP d p).2.2
      generalize (fmP d p).2.2 = c at hD' e ⊢
      omega
    · unfold gdF
      rw [v2, (prim_iff _).1 v1.2.1]
      rfl
