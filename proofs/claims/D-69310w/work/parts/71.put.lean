/-! contracts: members are made -/
section
variable {d w : Int} {n : Nat} {A : Nat → pI} {nxt : Nat → Nat} {cls : Nat → Int} {cnt : Nat} {nm : Nat → Nat}
def updE (ex : Fin cnt → Nat → Nat) (k : Fin cnt) (f : Nat → Nat) (y : Fin cnt) : Nat → Nat := if y = k then f else ex y
noncomputable def putS (T : isTF d w n A nxt cls cnt nm) (e : Nat) (p : Fin cnt) (st : gS cnt) (m : Fin cnt) : gS cnt := (st.1 ++ [mulC T m p], updE st.2.1 (mulC T m p) (fun i => if i = st.2.2.length then e else st.2.1 m i), st.2.2)
abbrev inGp (a : Nat) : Prop := a = 52 ∨ (54 ≤ a ∧ a ≤ 60) ∨ (63 ≤ a ∧ a ≤ 65)
/-- FormHouse$Group.put(III)V; cuts at [11, 49, 66, 74, 86] -/
def cl_91_2 : List mj_E := (82, false, .iload 4, 2, 0, 0, 0, 0, 0) ::
  (84, false, .i2s, 1, 0, 0, 0, 0, 0) ::
  (85, false, .sastore, 1, 0, 0, 0, 0, 0) ::
  (86, true, .aload_n 0, 1, 0, 0, 0, 0, 0) ::
  (87, false, .dup, 1, 0, 0, 0, 0, 0) ::
  (88, false, .getfield 123, 3, 8, 9, 0, 0, 0) ::
  (91, false, .iconst 1, 1, 0, 0, 0, jI 1, 0) ::
  (92, false, .iadd, 1, 0, 0, 0, 0, 0) ::
  (93, false, .putfield 123, 3, 8, 9, 0, 0, 0) ::
  (96, false, .return_, 1, 0, 0, 0, 0, 0) ::
  []
def cl_91_1 : List mj_E := (41, false, .saload, 1, 0, 0, 0, 0, 0) ::
  (42, false, .sastore, 1, 0, 0, 0, 0, 0) ::
  (43, false, .iinc 5 1, 3, 0, 0, 0, jI 1, 0) ::
  (46, false, .goto (-35), 3, 7, 0, 0, 0, 0) ::
  (49, true, .aload_n 0, 1, 0, 0, 0, 0, 0) ::
  (50, false, .getfield 40, 3, 8, 12, 2, 0, 0) ::
  (53, false, .bipush 8, 2, 0, 0, 0, jI 8, 0) ::
  (55, false, .iload 4, 2, 0, 0, 0, 0, 0) ::
  (57, false, .imul, 1, 0, 0, 0, 0, 0) ::
  (58, false, .aload_n 0, 1, 0, 0, 0, 0, 0) ::
  (59, false, .getfield 120, 3, 8, 7, 0, 0, 0) ::
  (62, false, .iadd, 1, 0, 0, 0, 0, 0) ::
  (63, false, .iload_n 3, 1, 0, 0, 0, 0, 0) ::
  (64, false, .i2s, 1, 0, 0, 0, 0, 0) ::
  (65, false, .sastore, 1, 0, 0, 0, 0, 0) ::
  (66, true, .aload_n 0, 1, 0, 0, 0, 0, 0) ::
  (67, false, .getfield 35, 3, 8, 11, 2, 0, 0) ::
  (70, false, .iload 4, 2, 0, 0, 0, 0, 0) ::
  (72, false, .iconst 1, 1, 0, 0, 0, jI 1, 0) ::
  (73, false, .bastore, 1, 0, 0, 0, 0, 0) ::
  (74, true, .aload_n 0, 1, 0, 0, 0, 0, 0) ::
  (75, false, .getfield 32, 3, 8, 10, 2, 0, 0) ::
  (78, false, .aload_n 0, 1, 0, 0, 0, 0, 0) ::
  (79, false, .getfield 123, 3, 8, 9, 0, 0, 0) ::
  cl_91_2
def cl_91_0 : List mj_E := (0, false, .aload_n 0, 1, 0, 0, 0, 0, 0) ::
  (1, false, .iload_n 1, 1, 0, 0, 0, 0, 0) ::
  (2, false, .iload_n 2, 1, 0, 0, 0, 0, 0) ::
  (3, false, .invokevirtual 92, 3, 78, 2, 8, 0, 0) ::
  (6, false, .istore 4, 2, 0, 0, 0, 0, 0) ::
  (8, false, .iconst 0, 1, 0, 0, 0, jI 0, 0) ::
  (9, false, .istore 5, 2, 0, 0, 0, 0, 0) ::
  (11, true, .iload 5, 2, 0, 0, 0, 0, 0) ::
  (13, false, .bipush 8, 2, 0, 0, 0, jI 8, 0) ::
  (15, false, .if_icmp .ge 34, 3, 28, 0, 0, 0, 0) ::
  (18, false, .aload_n 0, 1, 0, 0, 0, 0, 0) ::
  (19, false, .getfield 40, 3, 8, 12, 2, 0, 0) ::
  (22, false, .bipush 8, 2, 0, 0, 0, jI 8, 0) ::
  (24, false, .iload 4, 2, 0, 0, 0, 0, 0) ::
  (26, false, .imul, 1, 0, 0, 0, 0, 0) ::
  (27, false, .iload 5, 2, 0, 0, 0, 0, 0) ::
  (29, false, .iadd, 1, 0, 0, 0, 0, 0) ::
  (30, false, .aload_n 0, 1, 0, 0, 0, 0, 0) ::
  (31, false, .getfield 40, 3, 8, 12, 2, 0, 0) ::
  (34, false, .bipush 8, 2, 0, 0, 0, jI 8, 0) ::
  (36, false, .iload_n 1, 1, 0, 0, 0, 0, 0) ::
  (37, false, .imul, 1, 0, 0, 0, 0, 0) ::
  (38, false, .iload 5, 2, 0, 0, 0, 0, 0) ::
  (40, false, .iadd, 1, 0, 0, 0, 0, 0) ::
  cl_91_1
def cd_91 : List mj_E := cl_91_0
def cx_91 : mj_X := (0, [], [])
theorem tb_91 : mj_tab (mj_mt 91) cx_91 cd_91 mj_mh [(0, 0, 0), (0, 0, 0), (0, 0, 0), (4111, 0, 0), (0, 0, 0), (0, 0, 0), (0, 0, 0), (0, 0, 0), (0, 0, 0), (0, 0, 0), (0, 0, 0), (2090, 0, 0), (0, 0, 0), (0, 0, 0), (0, 0, 0), (0, 0, 0), (0, 0, 0), (0, 0, 0), (2090, 0, 0), (0, 0, 0), (0, 0, 0), (0, 0, 0), (0, 0, 0), (0, 0, 0), (0, 0, 0), (0, 0, 0), (0, 0, 0), (0, 0, 0), (0, 0, 0), (2090, 0, 0), (0, 0, 0), (0, 0, 0), (0, 0, 0), (0, 0, 0), (2083, 0, 0), (0, 0, 0), (0, 0, 0), (0, 0, 0), (0, 0, 0), (0, 0, 0), (2089, 0, 0), (0, 0, 0), (0, 0, 0), (0, 0, 0), (0, 0, 0), (2088, 0, 0), (0, 0, 0), (2087, 0, 0), (0, 0, 0), (0, 0, 0), (0, 0, 0), (0, 0, 0), (0, 0, 0), (2087, 0, 0), (0, 0, 0), (0, 0, 0), (2087, 0, 0), (0, 0, 0)] = true := mj_tab_f (by decide +kernel)
theorem ct_91 (G : mj_G) {h : mj_H} (L : isLay h) (T : isTF d w n A nxt cls cnt nm) (hT : isTB h d w n A cls cnt nm) {st : gS cnt} (hs : isGs st h) {m p : Fin cnt} {e : Nat} (hm : m ∈ st.1) (hne : mulC T m p ≠ m) (hlen : st.1.length < 4096) (hgi : st.2.2.length < 8) (he : e < 32768) : mj_Ct G (mj_mt 91) 0 0 [.ref 52, .int (jI m.val), .int (jI p.val), .int (jI e)] h (fun oc h' => oc = .returned none ∧ isGs (putS T e p st m) h' ∧ hI h' 52 5 = hI h 52 5 ∧ Fr inGp noT h h') := by
  have hcnt := T.1.2.2.2.2.2.1
  have hml := m.isLt
  have hpl := p.isLt
  unfold putS
  generalize hk : mulC T m p = k at hne
  have hkl := k.isLt
  have hkm : k.val ≠ m.val := fun z => hne (Fin.ext z)
  refine mj_Ct_of mj_ok tb_91 rfl rfl (Nat.le_of_ble_eq_true rfl) (fun Run hR => ?_)
  -- the new member's row is laid, h1 being the heap behind the product
  have r86 : ∀ (h' : mj_H) (x4 x5 : Option Value), (∀ y : Fin cnt, ∀ i, i < 8 → (y ∈ st.1 ∨ y = k) → hI h' 65 (8 * y.val + i) = jI (updE st.2.1 k (fun i => if i = st.2.2.length then e else st.2.1 m i) y i)) → (∀ y : Fin cnt, hI h' 64 y.val = jI (if y ∈ st.1 ++ [k] then 1 else 0)) → (∀ i y, (st.1 ++ [k])[i]? = some y → hI h' 63 i = jI y.val) → (∀ j, hI h' 52 j = hI h 52 j) → h'.1 62 = h.1 62 → Fr inGp noT h h' → Run 86 [some (.ref 52), some (.int (jI m.val)), some (.int (jI p.val)), some (.int (jI e)), x4, x5] [] h' (0, 0) := by
    intro h' x4 x5 h65 h64 h63 h52 h62 F
    have L0 := L.F F (fun _ z => z.elim)
    obtain ⟨s1, s2, s3, s4, s5, s6, s7⟩ := hs
    refine hR 60 51 _ _ _ _ _ _ rfl ?_
    refine ⟨L0.K 52 rfl, L0.K 52 rfl, ?_⟩
    refine ⟨rfl, ⟨?_, ?_, ⟨?_, s3.2⟩, ?_, ?_, ?_, ?_⟩, (sI_k _ _ (by decide) _).trans (h52 5), F.sI (by omega) _ _⟩
    · exact (sI_k _ _ (by decide) _).trans ((h52 7).trans s1)
    · rw [sI_at, h52 9, s2, jI_add]
      simp only [List.length_append, List.length_cons, List.length_nil]
      rfl
    · simp only [List.length_append, List.length_cons, List.length_nil]
      omega
    · intro i y hy
      exact (congrFun (sI_a _ (by decide) _ _) i).trans (h63 i y hy)
    · intro y
      exact (congrFun (sI_a _ (by decide) _ _) _).trans (h64 y)
    · intro y hy i hi
      have hy' : y ∈ st.1 ∨ y = k := by
        rcases List.mem_append.1 hy with z | z
        · exact Or.inl z
        · exact Or.inr (List.mem_singleton.1 z)
      refine ⟨(congrFun (sI_a _ (by decide) _ _) _).trans (h65 y i hi hy'), ?_⟩
      simp only [updE]
      split
      · show (if i = st.2.2.length then e else st.2.1 m i) < 32768
        split
        · exact he
        · exact (s6 m hm i hi).2
      · rcases hy' with z | z
        · exact (s6 y z i hi).2
        · exact absurd z (by assumption)
    · intro i g hg
      exact (congrFun (sI_a _ (by decide) _ _) i).trans ((congrFun h62 i).trans (s7 i g hg))
  have r49 : ∀ (h' : mj_H) (x5 : Option Value), (∀ idx, h'.1 65 idx = if 8 * k.val ≤ idx ∧ idx < 8 * k.val + 8 then jI (st.2.1 m (idx - 8 * k.val)) else h.1 65 idx) → h'.1 64 = h.1 64 → h'.1 63 = h.1 63 → h'.1 62 = h.1 62 → h'.1 52 = h.1 52 → Fr inGp noT h h' → Run 49 [some (.ref 52), some (.int (jI m.val)), some (.int (jI p.val)), some (.int (jI e)), some (.int (jI k.val)), x5] [] h' (0, 0) := by
    intro h' x5 h65 h64 h63 h62 h52 F
    have L0 := L.F F (fun _ z => z.elim)
    obtain ⟨s1, s2, s3, s4, s5, s6, s7⟩ := hs
    have e7 : hI h' 52 7 = jI st.2.2.length := (congrFun h52 7).trans s1
    have e9 : hI h' 52 9 = jI st.1.length := (congrFun h52 9).trans s2
    have ei : jI 8 * jI (k.val : Int) + jI (st.2.2.length : Int) = jI ((8 * k.val + st.2.2.length : Nat) : Int) := by
      rw [jI_mul, jI_add]
      congr 1
    -- the exponents
    have F1 : Fr inGp noT h (sI h' 65 (8 * k.val + st.2.2.length) (jI e)) := F.sI (by omega) _ _
    have L1 := L.F F1 (fun _ z => z.elim)
    have F2 : Fr inGp noT h (sI (sI h' 65 (8 * k.val + st.2.2.length) (jI e)) 64 k.val (jI 1)) := F1.sI (by omega) _ _
    have L2 := L.F F2 (fun _ z => z.elim)
    have F3 : Fr inGp noT h (sI (sI (sI h' 65 (8 * k.val + st.2.2.length) (jI e)) 64 k.val (jI 1)) 63 st.1.length (jI k.val)) := F2.sI (by omega) _ _
    have fin : Run 86 [some (.ref 52), some (.int (jI m.val)), some (.int (jI p.val)), some (.int (jI e)), some (.int (jI k.val)), x5] [] (sI (sI (sI h' 65 (8 * k.val + st.2.2.length) (jI e)) 64 k.val (jI 1)) 63 st.1.length (jI k.val)) (0, 0) := by
      refine r86 _ _ _ ?_ ?_ ?_ ?_ ?_ F3
      · intro y i hi hy
        have e65 : (sI (sI (sI h' 65 (8 * k.val + st.2.2.length) (jI e)) 64 k.val (jI 1)) 63 st.1.length (jI k.val)).1 65 = (sI h' 65 (8 * k.val + st.2.2.length) (jI e)).1 65 := (sI_a _ (by decide) _ _).trans (sI_a _ (by decide) _ _)
        show (sI (sI (sI h' 65 (8 * k.val + st.2.2.length) (jI e)) 64 k.val (jI 1)) 63 st.1.length (jI k.val)).1 65 (8 * y.val + i) = _
        rw [e65]
        unfold updE
        by_cases hyk : y = k
        · subst hyk
          rw [if_pos rfl]
          by_cases hii : i = st.2.2.length
          · subst hii
            rw [if_pos rfl]
            exact sI_at _ _ _ _
          · rw [if_neg hii]
            refine (sI_k _ _ (by omega) _).trans ?_
            show h'.1 65 _ = _
            rw [h65, if_pos (by omega), show 8 * y.val + i - 8 * y.val = i by omega]
        · rw [if_neg hyk]
          have hyv : y.val ≠ k.val := fun z => hyk (Fin.ext z)
          refine (sI_k _ _ (by omega) _).trans ?_
          show h'.1 65 _ = _
          rw [h65, if_neg (by omega)]
          rcases hy with z | z
          · exact (s6 y z i hi).1
          · exact absurd z hyk
      · intro y
        have e64 : (sI (sI (sI h' 65 (8 * k.val + st.2.2.length) (jI e)) 64 k.val (jI 1)) 63 st.1.length (jI k.val)).1 64 = (sI (sI h' 65 (8 * k.val + st.2.2.length) (jI e)) 64 k.val (jI 1)).1 64 := sI_a _ (by decide) _ _
        show (sI (sI (sI h' 65 (8 * k.val + st.2.2.length) (jI e)) 64 k.val (jI 1)) 63 st.1.length (jI k.val)).1 64 y.val = _
        rw [e64]
        by_cases hyk : y = k
        · subst hyk
          rw [if_pos (List.mem_append.2 (Or.inr (List.mem_singleton.2 rfl)))]
          exact sI_at _ _ _ _
        · have hyv : y.val ≠ k.val := fun z => hyk (Fin.ext z)
          refine (sI_k _ _ hyv _).trans ?_
          have e3 : (sI h' 65 (8 * k.val + st.2.2.length) (jI e)).1 64 = h.1 64 := (sI_a _ (by decide) _ _).trans h64
          show (sI h' 65 (8 * k.val + st.2.2.length) (jI e)).1 64 y.val = _
          rw [e3]
          have e4 : (y ∈ st.1 ++ [k]) ↔ y ∈ st.1 := by
            rw [List.mem_append, List.mem_singleton]
            constructor
            · rintro (z | z)
              · exact z
              · exact absurd z hyk
            · exact Or.inl
          simp only [e4]
          exact s5 y
      · intro i y hy
        by_cases hi : i = st.1.length
        · subst hi
          rw [List.getElem?_append_right (Nat.le_refl _), Nat.sub_self] at hy
          have h9 : some k = some y := hy
          have h8 := Option.some.inj h9
          rw [← h8]
          exact sI_at _ _ _ _
        · have hlt := lt_of_some hy
          simp only [List.length_append, List.length_cons, List.length_nil] at hlt
          rw [List.getElem?_append_left (by omega)] at hy
          refine (sI_k _ _ hi _).trans ?_
          have e3 : (sI (sI h' 65 (8 * k.val + st.2.2.length) (jI e)) 64 k.val (jI 1)).1 63 = h.1 63 := (sI_a _ (by decide) _ _).trans ((sI_a _ (by decide) _ _).trans h63)
          show (sI (sI h' 65 (8 * k.val + st.2.2.length) (jI e)) 64 k.val (jI 1)).1 63 i = _
          rw [e3]
          exact s4 i y hy
      · intro j
        exact congrFun ((sI_a _ (by decide) _ _).trans ((sI_a _ (by decide) _ _).trans ((sI_a _ (by decide) _ _).trans h52))) j
      · exact (sI_a _ (by decide) _ _).trans ((sI_a _ (by decide) _ _).trans ((sI_a _ (by decide) _ _).trans h62))
    have r74 : Run 74 [some (.ref 52), some (.int (jI m.val)), some (.int (jI p.val)), some (.int (jI e)), some (.int (jI k.val)), x5] [] (sI (sI h' 65 (8 * k.val + st.2.2.length) (jI e)) 64 k.val (jI 1)) (0, 0) := by
      have e92 : hI (sI (sI h' 65 (8 * k.val + st.2.2.length) (jI e)) 64 k.val (jI 1)) 52 9 = jI st.1.length := (congrFun ((sI_a _ (by decide) _ _).trans (sI_a _ (by decide) _ _)) 9).trans e9
      refine hR 60 44 _ _ _ _ _ _ rfl ?_
      refine ⟨L2.K 52 rfl, _, L2.R 52 10 _ rfl, L2.K 52 rfl, ?_⟩
      rw [e92]
      refine ⟨L2.K 63 rfl, ?_, ?_⟩
      · rw [show hN (sI (sI h' 65 (8 * k.val + st.2.2.length) (jI e)) 64 k.val (jI 1)) 63 = 4096 from L2.N 62 rfl]
        exact jI_in (by omega) (by omega) (by omega)
      · rw [jI_nat (by omega) (by omega), Int.toNat_natCast, jI_s (by omega) (by omega), jI_s (by omega) (by omega)]
        exact fin
    have r66 : Run 66 [some (.ref 52), some (.int (jI m.val)), some (.int (jI p.val)), some (.int (jI e)), some (.int (jI k.val)), x5] [] (sI h' 65 (8 * k.val + st.2.2.length) (jI e)) (0, 0) := by
      refine hR 60 39 _ _ _ _ _ _ rfl ?_
      refine ⟨L1.K 52 rfl, _, L1.R 52 11 _ rfl, L1.K 64 rfl, ?_, ?_⟩
      · rw [show hN (sI h' 65 (8 * k.val + st.2.2.length) (jI e)) 64 = 4096 from L1.N 63 rfl]
        exact jI_in (by omega) (by omega) (by omega)
      · rw [jI_nat (by omega) (by omega), Int.toNat_natCast, show jI 1 &&& 1 = jI 1 from rfl]
        exact r74
    refine hR 60 28 _ _ _ _ _ _ rfl ?_
    refine ⟨L0.K 52 rfl, _, L0.R 52 12 _ rfl, L0.K 52 rfl, ?_⟩
    rw [e7]
    refine ⟨L0.K 65 rfl, ?_, ?_⟩
    · rw [ei, show hN h' 65 = 32768 from L0.N 64 rfl]
      exact jI_in (by omega) (by omega) (by omega)
    · rw [ei, jI_nat (by omega) (by omega), Int.toNat_natCast, jI_s (by omega) (by omega), jI_s (by omega) (by omega)]
      exact r66
  have r11 : ∀ (t i : Nat) (iI : Int32) (h' : mj_H), i + t = 8 → (∀ idx, h'.1 65 idx = if 8 * k.val ≤ idx ∧ idx < 8 * k.val + i then jI (st.2.1 m (idx - 8 * k.val)) else h.1 65 idx) → h'.1 64 = h.1 64 → h'.1 63 = h.1 63 → h'.1 62 = h.1 62 → h'.1 52 = h.1 52 → Fr inGp noT h h' → iI = jI i → Run 11 [some (.ref 52), some (.int (jI m.val)), some (.int (jI p.val)), some (.int (jI e)), some (.int (jI k.val)), some (.int iI)] [] h' (0, 0) := by
    intro t
    induction t with
    | zero =>
      rintro i iI h' ht h65 h64 h63 h62 h52 F rfl
      have hi8 : i = 8 := by omega
      subst hi8
      refine hR 60 7 _ _ _ _ _ _ rfl ?_
      refine ⟨fun c => r49 h' _ h65 h64 h63 h62 h52 F, fun c => ?_⟩
      simp (disch := omega) only [mj_lcm, jI_lt, jI_le, jI_eq, jL_lt, jL_le, jL_eq, jI_lt0, jI_0le, jI_0lt, jI_le0, jI_eq0, jL_eq0, jI_L, jI_add, jI_sub, jI_mul, jI_neg, jL_add, jL_sub, jL_mul, jL_neg, jL_I, jI_div, jI_mod, jL_div, jL_mod] at c
      omega
    | succ t ih =>
      rintro i iI h' ht h65 h64 h63 h62 h52 F rfl
      have L0 := L.F F (fun _ z => z.elim)
      have s6 := (hs.2.2.2.2.2.1 m hm i (by omega))
      have ei : jI 8 * jI (k.val : Int) + jI (i : Int) = jI ((8 * k.val + i : Nat) : Int) := by
        rw [jI_mul, jI_add]
        congr 1
      have em : jI 8 * jI (m.val : Int) + jI (i : Int) = jI ((8 * m.val + i : Nat) : Int) := by
        rw [jI_mul, jI_add]
        congr 1
      have hv : hI h' 65 (8 * m.val + i) = jI (st.2.1 m i) := by
        show h'.1 65 _ = _
        rw [h65, if_neg (by omega)]
        exact s6.1
      refine hR 60 7 _ _ _ _ _ _ rfl ?_
      refine ⟨fun c => ?_, fun c => ?_⟩
      · simp (disch := omega) only [mj_lcm, jI_lt, jI_le, jI_eq, jL_lt, jL_le, jL_eq, jI_lt0, jI_0le, jI_0lt, jI_le0, jI_eq0, jL_eq0, jI_L, jI_add, jI_sub, jI_mul, jI_neg, jL_add, jL_sub, jL_mul, jL_neg, jL_I, jI_div, jI_mod, jL_div, jL_mod] at c
        omega
      · refine ⟨L0.K 52 rfl, _, L0.R 52 12 _ rfl, L0.K 52 rfl, _, L0.R 52 12 _ rfl, L0.K 65 rfl, ?_, L0.K 65 rfl, ?_, ?_⟩
        · rw [em, show hN h' 65 = 32768 from L0.N 64 rfl]
          exact jI_in (by omega) (by omega) (by omega)
        · rw [ei, show hN h' 65 = 32768 from L0.N 64 rfl]
          exact jI_in (by omega) (by omega) (by omega)
        · rw [ei, em, jI_nat (by omega) (by omega), jI_nat (by omega) (by omega), Int.toNat_natCast, Int.toNat_natCast, hv, jI_s (by omega) (by omega)]
          refine ih (i + 1) _ _ (by omega) (fun idx => ?_) ((sI_a _ (by decide) _ _).trans h64) ((sI_a _ (by decide) _ _).trans h63) ((sI_a _ (by decide) _ _).trans h62) ((sI_a _ (by decide) _ _).trans h52) (F.sI (by omega) _ _) (jI_add _ _)
          by_cases hx : idx = 8 * k.val + i
          · subst hx
            rw [if_pos (by omega), show 8 * k.val + i - 8 * k.val = i by omega]
            exact sI_at _ _ _ _
          · refine (sI_k _ _ hx _).trans ?_
            show h'.1 65 idx = _
            rw [h65]
            by_cases hy : 8 * k.val ≤ idx ∧ idx < 8 * k.val + i
            · rw [if_pos hy, if_pos (by omega)]
            · rw [if_neg hy, if_neg (by omega)]
  refine hR 60 0 _ _ _ _ _ _ rfl ?_
  refine ⟨L.K 52 rfl, jcallP (ct_78 G L T hT m p) ?_⟩
  rintro oo h1 ⟨rfl, F1⟩
  rw [hk]
  refine r11 8 0 _ h1 (by omega) (fun idx => ?_) (F1.2.1 64 (by omega)).1 (F1.2.1 63 (by omega)).1 (F1.2.1 62 (by omega)).1 (F1.2.1 52 (by omega)).1 (F1.mono (by intro a z; omega) (fun _ z => z)) rfl
  rw [if_neg (by omega)]
  exact congrFun (F1.2.1 65 (by omega)).1 idx
end
