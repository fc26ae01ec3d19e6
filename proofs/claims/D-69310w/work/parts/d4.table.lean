/-! what is to be known of a table -/
theorem isq_ex : ∀ n : Nat, ∃ r : Nat, r * r ≤ n ∧ n < (r + 1) * (r + 1)
  | 0 => ⟨0, by decide, by decide⟩
  | n + 1 => by
    obtain ⟨r, h1, h2⟩ := isq_ex n
    rcases Nat.lt_or_ge (n + 1) ((r + 1) * (r + 1)) with z | z
    · exact ⟨r, by omega, z⟩
    · exact ⟨r + 1, z, by
        have : (r + 1 + 1) * (r + 1 + 1) = (r + 1) * (r + 1) + 2 * r + 3 := by grind
        omega⟩
theorem isq_exI {x : Int} (h : 0 ≤ x) : ∃ r : Int, 0 ≤ r ∧ r * r ≤ x ∧ x < (r + 1) * (r + 1) := by
  obtain ⟨r, h1, h2⟩ := isq_ex x.toNat
  refine ⟨r, by omega, ?_, ?_⟩
  · have : ((r * r : Nat) : Int) ≤ x := by omega
    rwa [Int.natCast_mul] at this
  · have : x < (((r + 1) * (r + 1) : Nat) : Int) := by omega
    rwa [Int.natCast_mul] at this
theorem w_ex {d : Int} (hn : nsq d) (hdb : -1048576 ≤ d ∧ d ≤ 1048576) : ∃ w e : Int, wdP d w ∧ w ≤ 1024 ∧ -1 ≤ w ∧ mlP d w e ∧ mostP d w e ∧ e ≤ 1024 ∧ 0 ≤ e := by
  rcases Int.lt_trichotomy d 0 with hd | hd | hd
  · obtain ⟨e, e0, e1, e2⟩ := isq_exI (x := (-d) / 3) (by omega)
    have h3 : (-d).tdiv 3 = (-d) / 3 := Int.tdiv_eq_ediv_of_nonneg (by omega)
    have e3 : e ≤ 1024 := by
      rcases Int.lt_or_le 1024 e with z | z
      · have := sq_le (x := 1025) (y := e) (by decide) (by omega)
        omega
      · exact z
    refine ⟨-1, e, Or.inl ⟨hd, rfl⟩, by decide, by decide, Or.inl ⟨hd, e0, ?_, ?_⟩, Or.inr ⟨hd, e0, ?_, ?_⟩, e3, e0⟩
    · rw [h3]
      exact e1
    · rw [h3]
      exact e2
    · have : 3 * e * e = 3 * (e * e) := by grind
      omega
    · have : 3 * (e + 1) * (e + 1) = 3 * ((e + 1) * (e + 1)) := by grind
      omega
  · exact (hn 0 (by rw [hd]; rfl)).elim
  · obtain ⟨w, w0, w1, w2⟩ := isq_exI (x := d) (by omega)
    have w3 : w ≤ 1024 := by
      rcases Int.lt_or_le 1024 w with z | z
      · have := sq_le (x := 1025) (y := w) (by decide) (by omega)
        omega
      · exact z
    exact ⟨w, w, Or.inr ⟨hd, w0, w1, w2⟩, w3, by omega, Or.inr ⟨hd, rfl⟩, Or.inl ⟨hd, rfl, w0⟩, w3, w0⟩
theorem gd_bd {d w : Int} (hn : nsq d) (hdb : -1048576 ≤ d ∧ d ≤ 1048576) (hw : wdP d w) (hw4 : w ≤ 1024) {p : pI} (h : gdP d w p.1 p.2 = true) : (-1024 ≤ p.1 ∧ p.1 ≤ 1024) ∧ (-1024 ≤ p.2 ∧ p.2 ≤ 1024) ∧ okF (fmP d p) := by
  obtain ⟨v1, v2, v3⟩ := gd_vld h
  have c0 := nsq_3 hn v1.1
  rcases hw with ⟨hd, hw⟩ | ⟨hd, hw⟩
  · obtain ⟨g1, g2, g3, g4, g5⟩ := gd_neg hd h
    have ha : p.1 ≤ 1024 := by
      rcases Int.lt_or_le 1024 p.1 with z | z
      · have := sq_le (x := 1025) (y := p.1) (by decide) (by omega)
        omega
      · exact z
    obtain ⟨r1, r2, r3, r4⟩ := rdN_pos hd v1.1 v2
    have hD : p.2 * p.2 - 4 * p.1 * (fmP d p).2.2 = d := v1.1
    obtain ⟨c, hc⟩ : ∃ c, (fmP d p).2.2 = c := ⟨_, rfl⟩
    rw [hc] at hD r3 c0
    have r3' : p.1 ≤ c := r3
    have m1 : 1 * c ≤ p.1 * c := Int.mul_le_mul_of_nonneg_right (by omega) (by omega)
    have m2 : 4 * p.1 * c = 4 * (p.1 * c) := by grind
    have m3 : p.2 * p.2 ≤ 1024 * 1024 := sq_abs (by omega) (by omega)
    refine ⟨by omega, by omega, ⟨?_, ?_⟩, ⟨?_, ?_⟩, ⟨?_, ?_⟩, ?_⟩
    · show _ < p.1
      omega
    · show p.1 < _
      omega
    · show _ < p.2
      omega
    · show p.2 < _
      omega
    · rw [hc]
      omega
    · rw [hc]
      omega
    · rw [hc]
      exact c0
  · obtain ⟨g1, g2, g3, g4⟩ := gd_pos hd h
    obtain ⟨r1, r2, r3, r4⟩ := red_c hn hd hw v1.1 ((rdF_red hn hd hw v1.1).1 v2)
    have e2 : (fmP d p).2.1 = p.2 := rfl
    rw [e2] at r1 r2 r3 r4
    refine ⟨by omega, by omega, ⟨?_, ?_⟩, ⟨?_, ?_⟩, ⟨?_, ?_⟩, c0⟩
    · show _ < p.1
      omega
    · show p.1 < _
      omega
    · show _ < p.2
      omega
    · show p.2 < _
      omega
    · omega
    · omega
/-- rings of two forms with a great number -/
def spP (d : Int) (p : pI) : Prop := p.1.natAbs = 1 ∧ 0 < p.2 ∧ p.2 * p.2 + 4 * p.2 = d
theorem dv_big {x b : Int} (h : x ∣ b) (h0 : 0 < b) (h1 : b ≤ 1024) (h2 : 512 < x.natAbs) : b = x.natAbs := by
  obtain ⟨k, hk⟩ := h
  have e : b.natAbs = x.natAbs * k.natAbs := by rw [hk, Int.natAbs_mul]
  obtain ⟨K, hK⟩ : ∃ K, k.natAbs = K := ⟨_, rfl⟩
  rw [hK] at e
  rcases Nat.lt_or_ge K 2 with z | z
  · have : K = 0 ∨ K = 1 := by omega
    rcases this with rfl | rfl
    · rw [Nat.mul_zero] at e
      omega
    · rw [Nat.mul_one] at e
      omega
  · have := Nat.mul_le_mul (Nat.le_refl x.natAbs) z
    omega
theorem sp_one {a b c d : Int} (hD : b * b - 4 * a * c = d) (hac : a * c < 0) (hp : ∃ u v w : Int, u * a + v * b + w * c = 1) (hb0 : 0 < b) (hb : b ≤ 1024) (hc : c ∣ b) (ha : a ∣ b) (big : 512 < a.natAbs) : c.natAbs = 1 ∧ b * b + 4 * b = d := by
  have e := dv_big ha hb0 hb big
  have h1 : c ∣ 1 := by
    obtain ⟨u, v, w, h⟩ := hp
    rw [← h]
    have hca : c ∣ a := by
      have : c ∣ (a.natAbs : Int) := e ▸ hc
      exact Int.dvd_natAbs.1 this
    exact Int.dvd_add (Int.dvd_add (Int.dvd_mul_of_dvd_right hca) (Int.dvd_mul_of_dvd_right hc)) (Int.dvd_mul_left _ _)
  have h2 : c.natAbs = 1 := Nat.dvd_one.1 (Int.natAbs_dvd_natAbs.2 h1)
  refine ⟨h2, ?_⟩
  have h3 : (a * c).natAbs = a.natAbs := by rw [Int.natAbs_mul, h2, Nat.mul_one]
  have h4 : 4 * a * c = 4 * (a * c) := by grind
  omega
theorem sp_two {d w : Int} (hn : nsq d) (hd : 0 < d) (hw : isWd d w) (hw4 : w ≤ 1024) {p : pI} (h : gdP d w p.1 p.2 = true) (h2 : nxP d w (nxP d w p) = p) (big : ¬ p.1.natAbs ≤ 512 ∨ ¬ (nxP d w p).1.natAbs ≤ 512) : spP d p ∨ spP d (nxP d w p) := by
  obtain ⟨q, hq⟩ : ∃ q, nxP d w p = q := ⟨_, rfl⟩
  rw [hq] at h2 big ⊢
  have e1 := nxP_gd hn hd hw h
  rw [hq] at e1
  have e2 := nxP_gd hn hd hw e1.1
  rw [h2] at e2
  obtain ⟨v1, v2, v3⟩ := gd_vld h
  obtain ⟨u1, u2, u3⟩ := gd_vld e1.1
  have g1 := gd_pos hd h
  have g2 := gd_pos hd e1.1
  have r := (rdF_red hn hd hw v1.1).1 v2
  have c1 := nsq_3 hn v1.1
  have c2 := nsq_3 hn u1.1
  -- the numbers
  have k1 : q.1 = (fmP d p).2.2 := congrArg (fun f : Fm => f.1) e1.2
  have k2' : q.2 = nbE d w p.2 (fmP d p).2.2 := congrArg (fun f : Fm => f.2.1) e1.2
  have k3 : p.1 = (fmP d q).2.2 := congrArg (fun f : Fm => f.1) e2.2
  have k4 : p.2 = nbE d w q.2 (fmP d q).2.2 := congrArg (fun f : Fm => f.2.1) e2.2
  have n1 := nk_eq (d := d) (w := w) (b := p.2) c1
  have n2 := nk_eq (d := d) (w := w) (b := q.2) c2
  rw [← k2', ← k1] at n1
  rw [← k4, ← k3] at n2
  have D1 : p.2 * p.2 - 4 * p.1 * (fmP d p).2.2 = d := v1.1
  have D2 : q.2 * q.2 - 4 * q.1 * (fmP d q).2.2 = d := u1.1
  rw [← k1] at D1
  rw [← k3] at D2
  have eb : p.2 = q.2 := by
    have s : 4 * p.1 * q.1 = 4 * q.1 * p.1 := by grind
    have l1 : p.2 ≤ q.2 := le_of_sq (by omega) (by omega)
    have l2 : q.2 ≤ p.2 := le_of_sq (by omega) (by omega)
    omega
  have hac : p.1 * q.1 < 0 := by
    rw [k1]
    exact r.1
  obtain ⟨x, y, z, hp⟩ := v1.2.1
  have hp' : x * p.1 + y * p.2 + z * q.1 = 1 := by
    rw [k1]
    exact hp
  have dq : q.1 ∣ p.2 := ⟨nkE d w p.2 (fmP d p).2.2, by
    rw [k1] at n1 ⊢
    have : 2 * (fmP d p).2.2 * nkE d w p.2 (fmP d p).2.2 = 2 * ((fmP d p).2.2 * nkE d w p.2 (fmP d p).2.2) := by grind
    omega⟩
  have dp : p.1 ∣ p.2 := ⟨nkE d w q.2 (fmP d q).2.2, by
    rw [k3] at n2 ⊢
    have : 2 * (fmP d q).2.2 * nkE d w q.2 (fmP d q).2.2 = 2 * ((fmP d q).2.2 * nkE d w q.2 (fmP d q).2.2) := by grind
    omega⟩
  rcases big with z' | z'
  · right
    have := sp_one D1 hac ⟨x, y, z, hp'⟩ g1.1 (by omega) dq dp (by omega)
    refine ⟨this.1, g2.1, ?_⟩
    rw [← eb]
    exact this.2
  · left
    have := sp_one (a := q.1) (c := p.1) (b := p.2) (d := d) (by rw [← D1]; grind) (by rw [Int.mul_comm]; exact hac) ⟨z, y, x, by rw [← hp']; grind⟩ g1.1 (by omega) dp dq (by omega)
    exact ⟨this.1, g1.1, this.2⟩
theorem sp_few (d : Int) : ∃ x y : pI, ∀ p, spP d p → p = x ∨ p = y := by
  by_cases c : ∃ b : Int, 0 < b ∧ b * b + 4 * b = d
  · obtain ⟨b, b1, b2⟩ := c
    refine ⟨(1, b), (-1, b), fun p hp => ?_⟩
    obtain ⟨p1, p2, p3⟩ := hp
    have e : p.2 = b := by
      have s1 : (p.2 + 2) * (p.2 + 2) = d + 4 := by rw [← p3]; grind
      have s2 : (b + 2) * (b + 2) = d + 4 := by rw [← b2]; grind
      have l1 : p.2 + 2 ≤ b + 2 := le_of_sq (by omega) (by omega)
      have l2 : b + 2 ≤ p.2 + 2 := le_of_sq (by omega) (by omega)
      omega
    have : p.1 = 1 ∨ p.1 = -1 := by omega
    rcases this with z | z
    · exact Or.inl (Prod.ext z e)
    · exact Or.inr (Prod.ext z e)
  · exact ⟨(0, 0), (0, 0), fun p hp => (c ⟨p.2, hp.2.1, hp.2.2⟩).elim⟩
/-- each ring has two places with small first numbers, or it is one of few -/
theorem two_in {d w : Int} (hn : nsq d) (hd : 0 < d) (hdb : d ≤ 1048576) (hw : isWd d w) (hw4 : w ≤ 1024) {p : pI} (h : gdP d w p.1 p.2 = true) (C : pI → Prop) (hC : ∀ q, gdP d w q.1 q.2 = true → C q → C (nxP d w q)) (hp : C p) : ∃ P, P ∈ FL d w ∧ C P ∧ ((∃ Q, Q ∈ FL d w ∧ Q ≠ P ∧ C Q) ∨ spP d P) := by
  have h1 := (nxP_gd hn hd hw h).1
  have h2 := (nxP_gd hn hd hw h1).1
  have h3 := (nxP_gd hn hd hw h2).1
  have c1 := hC _ h hp
  have c2 := hC _ h1 c1
  have c3 := hC _ h2 c2
  have sg : ∀ q, gdP d w q.1 q.2 = true → (q.1.natAbs ≤ 512 ∨ (nxP d w q).1.natAbs ≤ 512) ∧ ((0 < q.1 ∧ (nxP d w q).1 < 0) ∨ (q.1 < 0 ∧ 0 < (nxP d w q).1)) := by
    intro q hq
    obtain ⟨v1, v2, v3⟩ := gd_vld hq
    have r := (rdF_red hn hd hw v1.1).1 v2
    exact ⟨red_small hd hdb v1.1 r, red_sign r⟩
  have s0 := sg p h
  have s1 := sg _ h1
  have s2 := sg _ h2
  have inF : ∀ q, gdP d w q.1 q.2 = true → q.1.natAbs ≤ 512 → q ∈ FL d w := fun q hq hs => (FL_mem hd q).2 ⟨by omega, hq⟩
  have n01 : nxP d w p ≠ p := fun e => by
    rw [e] at s0
    omega
  by_cases e : nxP d w (nxP d w p) = p
  · by_cases bs : p.1.natAbs ≤ 512 ∧ (nxP d w p).1.natAbs ≤ 512
    · exact ⟨p, inF p h bs.1, hp, Or.inl ⟨_, inF _ h1 bs.2, n01, c1⟩⟩
    · rcases sp_two hn hd hw hw4 h e (by omega) with z | z
      · exact ⟨p, inF p h (by have := z.1; omega), hp, Or.inr z⟩
      · exact ⟨_, inF _ h1 (by have := z.1; omega), c1, Or.inr z⟩
  · have n03 : nxP d w (nxP d w (nxP d w p)) ≠ p := fun e => by
      rw [e] at s2
      omega
    have n12 : nxP d w (nxP d w p) ≠ nxP d w p := fun e => by
      rw [e] at s1
      omega
    have n13 : nxP d w (nxP d w (nxP d w p)) ≠ nxP d w p := fun e' => e (nxP_inj hn hd hw h2 h e')
    have hP : ∃ P, P ∈ FL d w ∧ C P ∧ (P = p ∨ P = nxP d w p) := by
      rcases s0.1 with z | z
      · exact ⟨p, inF p h z, hp, Or.inl rfl⟩
      · exact ⟨_, inF _ h1 z, c1, Or.inr rfl⟩
    have hQ : ∃ Q, Q ∈ FL d w ∧ C Q ∧ (Q = nxP d w (nxP d w p) ∨ Q = nxP d w (nxP d w (nxP d w p))) := by
      rcases s2.1 with z | z
      · exact ⟨_, inF _ h2 z, c2, Or.inl rfl⟩
      · exact ⟨_, inF _ h3 z, c3, Or.inr rfl⟩
    obtain ⟨P, P1, P2, P3⟩ := hP
    obtain ⟨Q, Q1, Q2, Q3⟩ := hQ
    refine ⟨P, P1, P2, Or.inl ⟨Q, Q1, ?_, Q2⟩⟩
    rcases P3 with rfl | rfl <;> rcases Q3 with rfl | rfl
    · exact e
    · exact n03
    · exact n12
    · exact n13
theorem cls_count {cnt : Nat} {F : List pI} (cl : pI → Nat → Prop) (hu : ∀ p c c', cl p c → cl p c' → c = c') (sp : pI → Prop) (hsp : ∃ x y, ∀ p, sp p → p = x ∨ p = y) (h : ∀ c, c < cnt → ∃ P, P ∈ F ∧ cl P c ∧ ((∃ Q, Q ∈ F ∧ Q ≠ P ∧ cl Q c) ∨ sp P)) : 2 * cnt ≤ F.length + 2 := by
  have h' : ∀ c : Nat, ∃ z : pI × pI × Bool, c < cnt → (z.1 ∈ F ∧ cl z.1 c ∧ (z.2.2 = true → z.2.1 ∈ F ∧ z.2.1 ≠ z.1 ∧ cl z.2.1 c) ∧ (z.2.2 = false → sp z.1)) := by
    intro c
    by_cases hc : c < cnt
    · obtain ⟨P, P1, P2, ⟨Q, Q1, Q2, Q3⟩ | P3⟩ := h c hc
      · exact ⟨(P, Q, true), fun _ => ⟨P1, P2, fun _ => ⟨Q1, Q2, Q3⟩, fun z => by cases z⟩⟩
      · exact ⟨(P, P, false), fun _ => ⟨P1, P2, (fun z => by cases z), fun _ => P3⟩⟩
    · exact ⟨((0, 0), (0, 0), false), fun z => (hc z).elim⟩
  obtain ⟨z, hz⟩ := Classical.axiomOfChoice h'
  obtain ⟨x, y, hxy⟩ := hsp
  have rn : (List.range cnt).Nodup := List.nodup_range
  have inj : ∀ c c', c < cnt → c' < cnt → ∀ p, cl p c → cl p c' → c = c' := fun c c' _ _ p h1 h2 => hu p c c' h1 h2
  have e := flt_split (fun c => (z c).2.2) (List.range cnt)
  rw [List.length_range] at e
  have h1 := len_sub (((List.range cnt).map (fun c => (z c).1)) ++ (((List.range cnt).filter (fun c => (z c).2.2)).map (fun c => (z c).2.1))) F (by
    rw [List.Nodup, List.pairwise_append, List.pairwise_map, List.pairwise_map]
    refine ⟨List.Pairwise.imp_of_mem ?_ rn, List.Pairwise.imp_of_mem ?_ (rn.filter _), fun a ha b hb => ?_⟩
    · intro a b ha hb hne e
      have a1 := hz a (List.mem_range.1 ha)
      have b1 := hz b (List.mem_range.1 hb)
      exact hne (hu _ _ _ a1.2.1 (by rw [e]; exact b1.2.1))
    · intro a b ha hb hne e
      obtain ⟨a2, a3⟩ := List.mem_filter.1 ha
      obtain ⟨b2, b3⟩ := List.mem_filter.1 hb
      have a1 := (hz a (List.mem_range.1 a2)).2.2.1 a3
      have b1 := (hz b (List.mem_range.1 b2)).2.2.1 b3
      exact hne (hu _ _ _ a1.2.2 (by rw [e]; exact b1.2.2))
    · obtain ⟨i, hi, rfl⟩ := List.mem_map.1 ha
      obtain ⟨j, hj, rfl⟩ := List.mem_map.1 hb
      obtain ⟨j2, j3⟩ := List.mem_filter.1 hj
      have i1 := hz i (List.mem_range.1 hi)
      have j1 := (hz j (List.mem_range.1 j2)).2.2.1 j3
      intro e
      have : i = j := hu _ _ _ i1.2.1 (by rw [e]; exact j1.2.2)
      subst this
      exact j1.2.1 e.symm) (fun p hp => by
    rcases List.mem_append.1 hp with hp | hp
    · obtain ⟨i, hi, rfl⟩ := List.mem_map.1 hp
      exact (hz i (List.mem_range.1 hi)).1
    · obtain ⟨j, hj, rfl⟩ := List.mem_map.1 hp
      obtain ⟨j2, j3⟩ := List.mem_filter.1 hj
      exact ((hz j (List.mem_range.1 j2)).2.2.1 j3).1)
  have h2 := len_sub (((List.range cnt).filter (fun c => !(z c).2.2)).map (fun c => (z c).1)) [x, y] (by
    rw [List.Nodup, List.pairwise_map]
    refine List.Pairwise.imp_of_mem ?_ (rn.filter _)
    intro a b ha hb hne e
    have a1 := hz a (List.mem_range.1 (List.mem_filter.1 ha).1)
    have b1 := hz b (List.mem_range.1 (List.mem_filter.1 hb).1)
    exact hne (hu _ _ _ a1.2.1 (by rw [e]; exact b1.2.1))) (fun p hp => by
    obtain ⟨j, hj, rfl⟩ := List.mem_map.1 hp
    obtain ⟨j2, j3⟩ := List.mem_filter.1 hj
    have := (hz j (List.mem_range.1 j2)).2.2.2 (by simpa using j3)
    rcases hxy _ this with q | q
    · rw [q]
      exact List.mem_cons_self ..
    · rw [q]
      exact List.mem_cons_of_mem _ (List.mem_cons_self ..))
  rw [List.length_append, List.length_map, List.length_map, List.length_range] at h1
  rw [List.length_map] at h2
  have h3 : [x, y].length = 2 := rfl
  omega
