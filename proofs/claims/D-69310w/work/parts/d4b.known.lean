/-! the table of a discriminant is as it must be -/
theorem sst_inj {n : Nat} {A : Nat → pI} (hS : sst n A) {i j : Nat} (hi : i < n) (hj : j < n) (e : A i = A j) : i = j := by
  rcases Nat.lt_trichotomy i j with z | z | z
  · have := hS i j z hj
    rw [e] at this
    omega
  · exact z
  · have := hS j i z hi
    rw [e] at this
    omega
theorem tab_ex {d : Int} (tk : tkP d) : ∃ (w e : Int) (n : Nat) (A : Nat → pI) (nxt : Nat → Nat), isTF d w n A nxt (clSt nxt n n).1 (clSt nxt n n).2.1 (clSt nxt n n).2.2 ∧ wdP d w ∧ w ≤ 1024 ∧ mlP d w e ∧ (mfL d w e).length = n ∧ aL (mfL d w e) = A ∧ tbP d w n A nxt := by
  obtain ⟨hdb, hdd, hn⟩ := tk
  obtain ⟨w, e, hw, hw4, hw1, hml, hmo, he4, he0⟩ := w_ex hn hdb
  have hd0 : d ≠ 0 := fun z => hn 0 (by rw [z]; rfl)
  have mem := mf_mem hw hml
  have asc := mf_asc d w e
  have hlen : (mfL d w e).length ≤ 14540 ∧ (d < 0 → (mfL d w e).length ≤ 3955) := by
    rcases id hw with ⟨hd, -⟩ | ⟨hd, hw'⟩
    · have := len_neg hd hdb.1 hml
      exact ⟨by omega, fun _ => this⟩
    · rcases id hml with ⟨z, -⟩ | ⟨-, rfl⟩
      · omega
      · exact ⟨len_pos hn hd hdb.2 hw', fun z => by omega⟩
  obtain ⟨l, hl⟩ : ∃ l, mfL d w e = l := ⟨_, rfl⟩
  rw [hl] at mem asc hlen
  obtain ⟨n, hnl⟩ : ∃ n, l.length = n := ⟨_, rfl⟩
  have hS : sst n (aL l) := hnl ▸ aL_sst asc
  have hps := perm_sort asc (raw_nd d w e) (fun p => (mem p).trans (raw_mem hn hdd hdb hw4 hmo he4 p).symm)
  rw [hnl] at hlen hps
  obtain ⟨A, hA⟩ : ∃ A, aL l = A := ⟨_, rfl⟩
  have gd : ∀ i, i < n → gdP d w (A i).1 (A i).2 = true := fun i hi => by
    rw [← hA]
    exact (mem _).1 (aL_mem (by omega))
  have ix : ∀ p : pI, gdP d w p.1 p.2 = true → ∃ i, i < n ∧ A i = p := fun p hp => by
    obtain ⟨i, i1, i2⟩ := mem_aL ((mem p).2 hp)
    rw [hA] at i2
    exact ⟨i, by omega, i2⟩
  rw [hA] at hS hps
  -- the next places
  have nx_ex : ∀ i : Nat, ∃ j : Nat, i < n → j < n ∧ (0 < d → A j = nxP d w (A i)) ∧ (d ≤ 0 → j = i) := by
    intro i
    by_cases hi : i < n
    · rcases id hw with ⟨hd, -⟩ | ⟨hd, hw'⟩
      · exact ⟨i, fun _ => ⟨hi, fun z => by omega, fun _ => rfl⟩⟩
      · obtain ⟨j, j1, j2⟩ := ix _ (nxP_gd hn hd hw' (gd i hi)).1
        exact ⟨j, fun _ => ⟨j1, fun _ => j2, fun z => by omega⟩⟩
    · exact ⟨0, fun z => (hi z).elim⟩
  obtain ⟨nxt, hnx⟩ := Classical.axiomOfChoice nx_ex
  have H1 : ∀ i, i < n → nxt i < n := fun i hi => (hnx i hi).1
  have H2 : ∀ i j, i < n → j < n → nxt i = nxt j → i = j := by
    intro i j hi hj hij
    rcases id hw with ⟨hd, -⟩ | ⟨hd, hw'⟩
    · have a := (hnx i hi).2.2 (by omega)
      have b := (hnx j hj).2.2 (by omega)
      omega
    · have a := (hnx i hi).2.1 hd
      have b := (hnx j hj).2.1 hd
      rw [hij, b] at a
      exact sst_inj hS hi hj (nxP_inj hn hd hw' (gd i hi) (gd j hj) a.symm)
  have hNx : isNx d w n A nxt := by
    intro i hi
    refine ⟨H1 i hi, (gd_vld (gd i hi)).2.2, (gd_bd hn hdb hw hw4 (gd i hi)).2.2, fun hd => ?_, (hnx i hi).2.2⟩
    rcases id hw with ⟨z, -⟩ | ⟨-, hw'⟩
    · omega
    · rw [(hnx i hi).2.1 hd, (nxP_gd hn hd hw' (gd i hi)).2]
  have hit : 0 < d → ∀ m i, i < n → itF d w m (fmP d (A i)) = fmP d (A (oN nxt i m)) := by
    intro hd m
    induction m with
    | zero => exact fun i _ => rfl
    | succ m ih =>
      intro i hi
      rw [itF_succ, ih i hi]
      exact (hNx _ (oN_lt H1 hi m)).2.2.2.1 hd
  have cI := clI_all H1 H2 n (Nat.le_refl _)
  obtain ⟨c1, c2, c3, c4, c5⟩ := id cI
  have hc4 : (clSt nxt n n).2.1 ≤ 4096 := by
    rcases id hw with ⟨hd, -⟩ | ⟨hd, hw'⟩
    · have := len_sub ((List.range (clSt nxt n n).2.1).map (clSt nxt n n).2.2) (List.range n) (by
        rw [List.Nodup, List.pairwise_map]
        refine List.Pairwise.imp_of_mem ?_ List.nodup_range
        intro a b ha hb hne z
        have a1 := (c4 a (List.mem_range.1 ha)).2
        have b1 := (c4 b (List.mem_range.1 hb)).2
        rw [z, b1] at a1
        exact hne (by omega)) (fun x hx => by
        obtain ⟨c, hc, rfl⟩ := List.mem_map.1 hx
        exact List.mem_range.2 (c4 c (List.mem_range.1 hc)).1)
      rw [List.length_map, List.length_range, List.length_range] at this
      have := hlen.2 hd
      omega
    · have hF := FL_len (w := w) hd
      have := cls_count (cnt := (clSt nxt n n).2.1) (F := FL d w) (fun p c => ∃ i, i < n ∧ A i = p ∧ (clSt nxt n n).1 i = (c : Nat)) (fun p c c' h h' => by
        obtain ⟨i, i1, i2, i3⟩ := h
        obtain ⟨j, j1, j2, j3⟩ := h'
        have : i = j := sst_inj hS i1 j1 (i2.trans j2.symm)
        subst this
        rw [i3] at j3
        omega) (spP d) (sp_few d) (fun c hc => by
        obtain ⟨a1, a2⟩ := c4 c hc
        refine two_in hn hd hdb.2 hw' hw4 (gd _ a1) (fun p => ∃ i, i < n ∧ A i = p ∧ (clSt nxt n n).1 i = (c : Nat)) (fun q hq hC => ?_) ⟨_, a1, rfl, a2⟩
        obtain ⟨i, i1, i2, i3⟩ := hC
        exact ⟨nxt i, H1 i i1, by rw [(hnx i i1).2.1 hd, i2], (c2 i i1).trans i3⟩)
      omega
  refine ⟨w, e, n, A, nxt, ⟨⟨hn, hdd, hdb, ⟨hw1, by omega⟩, by omega, hc4, hS, hNx⟩, ?_, ?_, c4, ?_, ?_, ?_, ?_⟩, hw, hw4, hml, by rw [hl, hnl], by rw [hl, hA], e, hmo, he4, hps.1, by omega, hps.2, hS, hNx, ?_⟩
  · intro i hi
    have v := gd_vld (gd i hi)
    have b := gd_bd hn hdb hw hw4 (gd i hi)
    exact ⟨v.1, v.2.1, b.1, b.2.1⟩
  · intro i hi
    have a1 := c1 i hi
    have a2 := c3 i hi hi
    exact ⟨((clSt nxt n n).1 i).toNat, by omega, by omega⟩
  · intro i j hi hj
    rw [cls_orb H1 H2 hi hj]
    have vi := gd_vld (gd i hi)
    have vj := gd_vld (gd j hj)
    rcases id hw with ⟨hd, -⟩ | ⟨hd, hw'⟩
    · have same : ∀ m, oN nxt i m = i := by
        intro m
        induction m with
        | zero => rfl
        | succ m ih =>
          show nxt (oN nxt i m) = i
          rw [ih]
          exact (hnx i hi).2.2 (by omega)
      constructor
      · intro he
        have := redN_all (rdN_pos hd vi.1.1 vi.2.1) (rdN_pos hd vj.1.1 vj.2.1) he
        exact ⟨0, (sst_inj hS hi hj (congrArg k2 this)).symm⟩
      · rintro ⟨m, rfl⟩
        rw [same m]
        exact eqv_refl _
    · constructor
      · intro he
        obtain ⟨m, hm⟩ := cycle_all hn hd hw' vi.1.1 ((rdF_red hn hd hw' vi.1.1).1 vi.2.1) ((rdF_red hn hd hw' vj.1.1).1 vj.2.1) he
        rw [hit hd m i hi] at hm
        exact ⟨m, sst_inj hS hj (oN_lt H1 hi m) (congrArg k2 hm)⟩
      · rintro ⟨m, rfl⟩
        rw [← hit hd m i hi]
        exact (it_eqv hn m _ vi.1.1).1
  · intro F hF ho
    obtain ⟨m, m1, m2⟩ := come_trm hn hdb hw hw4 hF ho
    refine ⟨m, by omega, m2, ?_⟩
    have r := (trm_rd m F m2).2
    have v := it_vld (w := w) hn m F hF
    obtain ⟨g1, g2⟩ := vld_gd hn v r
    obtain ⟨k, k1, k2⟩ := ix ((itF d w m F).1, (itF d w m F).2.1) g1
    exact ⟨k, k1, by rw [k2, g2]⟩
  · intro hd k hk
    rcases id hw with ⟨z, -⟩ | ⟨-, hw'⟩
    · omega
    · have vk := gd_vld (gd k hk)
      obtain ⟨N, N1, N2⟩ := ring_closes hn hd hw' vk.1.1 ((rdF_red hn hd hw' vk.1.1).1 vk.2.1)
      obtain ⟨M, m1, ⟨m2, m3⟩, m4⟩ := least_of (P := fun N => 0 < N ∧ itF d w N (fmP d (A k)) = fmP d (A k)) N ⟨N1, N2⟩
      refine ⟨M, fun i => ?_, m2, m3, fun i i1 i2 z => m4 i i2 ⟨i1, z⟩⟩
      rw [hit hd i k hk]
      exact (hNx _ (oN_lt H1 hk i)).2.2.1
  · intro F hF
    obtain ⟨m, hm⟩ := come_red hn hw hF
    have v := it_vld (w := w) hn m F hF
    obtain ⟨g1, g2⟩ := vld_gd hn v hm
    obtain ⟨k, k1, k2⟩ := ix ((itF d w m F).1, (itF d w m F).2.1) g1
    refine ⟨k, k1, ?_⟩
    rw [k2, g2]
    exact (it_eqv hn m F hF.1).1
  · intro k hk
    have := clSt_mono nxt n k (n - k)
    rw [show k + (n - k) = n by omega] at this
    omega
