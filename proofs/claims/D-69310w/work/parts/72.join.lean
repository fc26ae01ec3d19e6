/-! contracts: a generator is joined -/
section
variable {d w : Int} {n : Nat} {A : Nat → pI} {nxt : Nat → Nat} {cls : Nat → Int} {cnt : Nat} {nm : Nat → Nat}
noncomputable def innS (T : isTF d w n A nxt cls cnt nm) (B : List (Fin cnt)) (e : Nat) (p : Fin cnt) : Nat → gS cnt → gS cnt
  | 0, st => st
  | i + 1, st => match B[i]? with
    | some m => putS T e p (innS T B e p i st) m
    | none => innS T B e p i st
noncomputable def outS (T : isTF d w n A nxt cls cnt nm) (B : List (Fin cnt)) (g : Fin cnt) : Nat → gS cnt → gS cnt
  | 0, st => st
  | e + 1, st => innS T B (e + 1) (pw (mulC T) (oneC T) g (e + 1)) B.length (outS T B g e st)
noncomputable def jnS (T : isTF d w n A nxt cls cnt nm) (o : Fin cnt → Nat) (st : gS cnt) (g : Fin cnt) : gS cnt := ((outS T st.1 g (o g - 1) st).1, (outS T st.1 g (o g - 1) st).2.1, (outS T st.1 g (o g - 1) st).2.2 ++ [g])
theorem innS_pre (T : isTF d w n A nxt cls cnt nm) (B : List (Fin cnt)) (e : Nat) (p : Fin cnt) (st : gS cnt) : ∀ i, i ≤ B.length → (innS T B e p i st).2.2 = st.2.2 ∧ ∃ y, (innS T B e p i st).1 = st.1 ++ y ∧ y.length = i
  | 0, _ => ⟨rfl, [], (List.append_nil _).symm, rfl⟩
  | i + 1, hi => by
    obtain ⟨h1, y, h2, h3⟩ := innS_pre T B e p st i (by omega)
    have hb : B[i]? = some B[i] := List.getElem?_eq_getElem (by omega)
    have es : innS T B e p (i + 1) st = putS T e p (innS T B e p i st) B[i] := by
      show (match B[i]? with | some m => putS T e p (innS T B e p i st) m | none => innS T B e p i st) = _
      rw [hb]
    rw [es]
    refine ⟨h1, y ++ [mulC T B[i] p], ?_, ?_⟩
    · show (innS T B e p i st).1 ++ [mulC T B[i] p] = _
      rw [h2, List.append_assoc]
    · rw [List.length_append, h3]
      rfl
theorem outS_pre (T : isTF d w n A nxt cls cnt nm) (B : List (Fin cnt)) (g : Fin cnt) (st : gS cnt) : ∀ e, (outS T B g e st).2.2 = st.2.2 ∧ ∃ y, (outS T B g e st).1 = st.1 ++ y ∧ y.length = B.length * e
  | 0 => ⟨rfl, [], (List.append_nil _).symm, rfl⟩
  | e + 1 => by
    obtain ⟨h1, y, h2, h3⟩ := outS_pre T B g st e
    obtain ⟨k1, z, k2, k3⟩ := innS_pre T B (e + 1) (pw (mulC T) (oneC T) g (e + 1)) (outS T B g e st) B.length (Nat.le_refl _)
    refine ⟨k1.trans h1, y ++ z, ?_, ?_⟩
    · show (innS T B (e + 1) (pw (mulC T) (oneC T) g (e + 1)) B.length (outS T B g e st)).1 = _
      rw [k2, h2, List.append_assoc]
    · rw [List.length_append, h3, k3, Nat.mul_succ]
abbrev inGj (a : Nat) : Prop := a = 52 ∨ (54 ≤ a ∧ a ≤ 60) ∨ (62 ≤ a ∧ a ≤ 65)
/-- FormHouse$Group.join(I)V; cuts at [10, 20, 23, 44, 70, 76] -/
def cl_90_2 : List mj_E := (86, false, .return_, 1, 0, 0, 0, 0, 0) ::
  []
def cl_90_1 : List mj_E := (40, false, .istore_n 3, 1, 0, 0, 0, 0, 0) ::
  (41, false, .iconst 0, 1, 0, 0, 0, jI 0, 0) ::
  (42, false, .istore 5, 2, 0, 0, 0, 0, 0) ::
  (44, true, .iload 5, 2, 0, 0, 0, 0, 0) ::
  (46, false, .iload_n 2, 1, 0, 0, 0, 0, 0) ::
  (47, false, .if_icmp .ge 23, 3, 40, 0, 0, 0, 0) ::
  (50, false, .aload_n 0, 1, 0, 0, 0, 0, 0) ::
  (51, false, .aload_n 0, 1, 0, 0, 0, 0, 0) ::
  (52, false, .getfield 32, 3, 8, 10, 2, 0, 0) ::
  (55, false, .iload 5, 2, 0, 0, 0, 0, 0) ::
  (57, false, .saload, 1, 0, 0, 0, 0, 0) ::
  (58, false, .iload_n 3, 1, 0, 0, 0, 0, 0) ::
  (59, false, .iload 4, 2, 0, 0, 0, 0, 0) ::
  (61, false, .invokevirtual 136, 3, 91, 3, 8, 0, 0) ::
  (64, false, .iinc 5 1, 3, 0, 0, 0, jI 1, 0) ::
  (67, false, .goto (-23), 3, 27, 0, 0, 0, 0) ::
  (70, true, .iinc 4 1, 3, 0, 0, 0, jI 1, 0) ::
  (73, false, .goto (-50), 3, 14, 0, 0, 0, 0) ::
  (76, true, .aload_n 0, 1, 0, 0, 0, 0, 0) ::
  (77, false, .dup, 1, 0, 0, 0, 0, 0) ::
  (78, false, .getfield 120, 3, 8, 7, 0, 0, 0) ::
  (81, false, .iconst 1, 1, 0, 0, 0, jI 1, 0) ::
  (82, false, .iadd, 1, 0, 0, 0, 0, 0) ::
  (83, false, .putfield 120, 3, 8, 7, 0, 0, 0) ::
  cl_90_2
def cl_90_0 : List mj_E := (0, false, .aload_n 0, 1, 0, 0, 0, 0, 0) ::
  (1, false, .getfield 28, 3, 8, 8, 2, 0, 0) ::
  (4, false, .aload_n 0, 1, 0, 0, 0, 0, 0) ::
  (5, false, .getfield 120, 3, 8, 7, 0, 0, 0) ::
  (8, false, .iload_n 1, 1, 0, 0, 0, 0, 0) ::
  (9, false, .iastore, 1, 0, 0, 0, 0, 0) ::
  (10, true, .aload_n 0, 1, 0, 0, 0, 0, 0) ::
  (11, false, .getfield 123, 3, 8, 9, 0, 0, 0) ::
  (14, false, .istore_n 2, 1, 0, 0, 0, 0, 0) ::
  (15, false, .aload_n 0, 1, 0, 0, 0, 0, 0) ::
  (16, false, .getfield 84, 3, 8, 5, 0, 0, 0) ::
  (19, false, .istore_n 3, 1, 0, 0, 0, 0, 0) ::
  (20, true, .iconst 1, 1, 0, 0, 0, jI 1, 0) ::
  (21, false, .istore 4, 2, 0, 0, 0, 0, 0) ::
  (23, true, .iload 4, 2, 0, 0, 0, 0, 0) ::
  (25, false, .aload_n 0, 1, 0, 0, 0, 0, 0) ::
  (26, false, .getfield 24, 3, 8, 6, 2, 0, 0) ::
  (29, false, .iload_n 1, 1, 0, 0, 0, 0, 0) ::
  (30, false, .saload, 1, 0, 0, 0, 0, 0) ::
  (31, false, .if_icmp .ge 45, 3, 42, 0, 0, 0, 0) ::
  (34, false, .aload_n 0, 1, 0, 0, 0, 0, 0) ::
  (35, false, .iload_n 3, 1, 0, 0, 0, 0, 0) ::
  (36, false, .iload_n 1, 1, 0, 0, 0, 0, 0) ::
  (37, false, .invokevirtual 92, 3, 78, 2, 8, 0, 0) ::
  cl_90_1
def cd_90 : List mj_E := cl_90_0
def cx_90 : mj_X := (0, [], [])
theorem tb_90 : mj_tab (mj_mt 90) cx_90 cd_90 mj_mh [(0, 0, 0), (2085, 0, 0), (0, 0, 0), (2083, 0, 0), (0, 0, 0), (0, 0, 0), (0, 0, 0), (2087, 0, 0), (0, 0, 0), (0, 0, 0), (2079, 0, 0), (0, 0, 0), (0, 0, 0), (0, 0, 0), (0, 0, 0), (0, 0, 0), (2081, 0, 0), (0, 0, 0), (0, 0, 0), (0, 0, 0), (0, 0, 0), (0, 0, 0), (0, 0, 0), (4111, 0, 0), (0, 0, 0), (0, 0, 0), (0, 0, 0), (0, 0, 0), (0, 0, 0), (0, 0, 0), (0, 0, 0), (0, 0, 0), (2088, 0, 0), (0, 0, 0), (0, 0, 0), (0, 0, 0), (0, 0, 0), (4170, 0, 0), (0, 0, 0), (0, 0, 0), (0, 0, 0), (0, 0, 0), (0, 0, 0), (0, 0, 0), (2083, 0, 0), (0, 0, 0), (0, 0, 0), (2083, 0, 0), (0, 0, 0)] = true := mj_tab_f (by decide +kernel)
theorem ct_90 (G : mj_G) {h : mj_H} (L : isLay h) (T : isTF d w n A nxt cls cnt nm) (hT : isTB h d w n A cls cnt nm) {o : Fin cnt → Nat} (hG : isGr T o h) (ho : ∀ x, isOrd (mulC T) (oneC T) x (o x) ∧ o x ≤ 4096) {st : gS cnt} (hs : isGs st h) {g : Fin cnt} (hgi : st.2.2.length < 8) (hln : st.1.length * o g ≤ 4096) : mj_Ct G (mj_mt 90) 0 0 [.ref 52, .int (jI g.val)] h (fun oc h' => oc = .returned none ∧ isGs (jnS T o st g) h' ∧ isGr T o h' ∧ Fr inGj noT h h') := by
  have Gp := gpC T
  have hcnt := T.1.2.2.2.2.2.1
  obtain ⟨hg1, hg2⟩ := ho g
  have hg0 := hg1.1
  have hgl := g.isLt
  have vin : ∀ {h' : mj_H}, isLay h' → vp_in (jI g.val) (hN h' 61) := by
    intro h' L'
    rw [show hN h' 61 = 4096 from L'.N 60 rfl]
    exact jI_in (by omega) (by omega) (by omega)
  have nat : (jI (g.val : Int)).toNatClampNeg = g.val := by rw [jI_nat (by omega) (by omega), Int.toNat_natCast]
  refine mj_Ct_of mj_ok tb_90 rfl rfl (Nat.le_of_ble_eq_true rfl) (fun Run hR => ?_)
  -- the generator counts
  have r76 : ∀ (h' : mj_H) (x2 x3 x4 x5 : Option Value), isGs (outS T st.1 g (o g - 1) st) h' → hI h' 62 st.2.2.length = jI g.val → isGr T o h' → Fr inGj noT h h' → Run 76 [some (.ref 52), some (.int (jI g.val)), x2, x3, x4, x5] [] h' (0, 0) := by
    intro h' x2 x3 x4 x5 hs' h62 hG' F
    have L0 := L.F F (fun _ z => z.elim)
    obtain ⟨p1, -⟩ := outS_pre T st.1 g st (o g - 1)
    obtain ⟨s1, s2, s3, s4, s5, s6, s7⟩ := hs'
    rw [p1] at s1 s3 s7
    refine hR 60 42 _ _ _ _ _ _ rfl ?_
    refine ⟨L0.K 52 rfl, L0.K 52 rfl, ?_⟩
    refine ⟨rfl, ⟨?_, ?_, ⟨s3.1, ?_, hcnt⟩, ?_, ?_, ?_, ?_⟩, ⟨(sI_k _ _ (by decide) _).trans hG'.1, fun x => (congrFun (sI_a _ (by decide) _ _) _).trans (hG'.2 x)⟩, F.sI (by omega) _ _⟩
    · rw [sI_at, s1, jI_add]
      simp only [jnS, p1, List.length_append, List.length_cons, List.length_nil]
      rfl
    · exact (sI_k _ _ (by decide) _).trans s2
    · simp only [jnS, p1, List.length_append, List.length_cons, List.length_nil]
      omega
    · intro i y hy
      exact (congrFun (sI_a _ (by decide) _ _) i).trans (s4 i y hy)
    · intro y
      exact (congrFun (sI_a _ (by decide) _ _) _).trans (s5 y)
    · intro y hy i hi
      exact ⟨(congrFun (sI_a _ (by decide) _ _) _).trans (s6 y hy i hi).1, (s6 y hy i hi).2⟩
    · intro i g' hg'
      refine (congrFun (sI_a _ (by decide) _ _) i).trans ?_
      simp only [jnS, p1] at hg'
      by_cases hi : i = st.2.2.length
      · subst hi
        rw [List.getElem?_append_right (Nat.le_refl _), Nat.sub_self] at hg'
        have h9 : some g = some g' := hg'
        rw [← Option.some.inj h9]
        exact h62
      · have hlt := lt_of_some hg'
        simp only [List.length_append, List.length_cons, List.length_nil] at hlt
        rw [List.getElem?_append_left (by omega)] at hg'
        exact s7 i g' hg'
  have hBe : ∀ e, e < o g → st.1.length * (e + 1) ≤ 4096 := by
    intro e he
    have : st.1.length * (e + 1) ≤ st.1.length * o g := Nat.mul_le_mul_left _ he
    omega
  have r23 : ∀ (t e : Nat) (eI : Int32) (h' : mj_H) (x5 : Option Value), e + t = o g → 1 ≤ e → isGs (outS T st.1 g (e - 1) st) h' → hI h' 62 st.2.2.length = jI g.val → isGr T o h' → Fr inGj noT h h' → eI = jI e → Run 23 [some (.ref 52), some (.int (jI g.val)), some (.int (jI st.1.length)), some (.int (jI (pw (mulC T) (oneC T) g (e - 1)).val)), some (.int eI), x5] [] h' (0, 0) := by
    intro t
    induction t with
    | zero =>
      rintro e eI h' x5 ht he hs' h62 hG' F rfl
      have L0 := L.F F (fun _ z => z.elim)
      refine hR 60 14 _ _ _ _ _ _ rfl ?_
      refine ⟨L0.K 52 rfl, _, L0.R 52 6 _ rfl, L0.K 61 rfl, vin L0, ?_⟩
      rw [nat, hG'.2 g]
      refine ⟨fun c => ?_, fun c => ?_⟩
      · have : e - 1 = o g - 1 := by omega
        rw [this] at hs'
        exact r76 h' _ _ _ _ hs' h62 hG' F
      · simp (disch := omega) only [mj_lcm, jI_lt, jI_le, jI_eq, jL_lt, jL_le, jL_eq, jI_lt0, jI_0le, jI_0lt, jI_le0, jI_eq0, jL_eq0, jI_L, jI_add, jI_sub, jI_mul, jI_neg, jL_add, jL_sub, jL_mul, jL_neg, jL_I, jI_div, jI_mod, jL_div, jL_mod] at c
        omega
    | succ t ih =>
      rintro e eI h' x5 ht he hs' h62 hG' F rfl
      have L0 := L.F F (fun _ z => z.elim)
      have hT0 := hT.F F (by omega)
      have epw : mulC T (pw (mulC T) (oneC T) g (e - 1)) g = pw (mulC T) (oneC T) g e := by
        show pw (mulC T) (oneC T) g (e - 1 + 1) = _
        rw [show e - 1 + 1 = e by omega]
      have hpne : pw (mulC T) (oneC T) g e ≠ oneC T := hg1.2.2 e (by omega) (by omega)
      obtain ⟨q1, y1, q2, q3⟩ := outS_pre T st.1 g st (e - 1)
      have hb := hBe e (by omega)
      have hmul : st.1.length * (e + 1) = st.1.length * (e - 1) + st.1.length + st.1.length := by
        rw [show e + 1 = e - 1 + 1 + 1 by omega, Nat.mul_succ, Nat.mul_succ]
      have r44 : ∀ (t2 i : Nat) (iI : Int32) (h2 : mj_H), i + t2 = st.1.length → isGs (innS T st.1 e (pw (mulC T) (oneC T) g e) i (outS T st.1 g (e - 1) st)) h2 → hI h2 62 st.2.2.length = jI g.val → isGr T o h2 → Fr inGj noT h h2 → iI = jI i → Run 44 [some (.ref 52), some (.int (jI g.val)), some (.int (jI st.1.length)), some (.int (jI (pw (mulC T) (oneC T) g e).val)), some (.int (jI e)), some (.int iI)] [] h2 (0, 0) := by
        intro t2
        induction t2 with
        | zero =>
          rintro i iI h2 ht2 hs2 h622 hG2 F2 rfl
          have hi : i = st.1.length := by omega
          subst hi
          refine hR 60 27 _ _ _ _ _ _ rfl ?_
          refine ⟨fun c => ?_, fun c => ?_⟩
          · refine hR 60 40 _ _ _ _ _ _ rfl ?_
            have := ih (e + 1) (jI (e : Int) + jI 1) h2 (some (.int (jI st.1.length))) (by omega) (by omega) (by
              rw [show e + 1 - 1 = (e - 1) + 1 by omega]
              show isGs (innS T st.1 (e - 1 + 1) (pw (mulC T) (oneC T) g (e - 1 + 1)) st.1.length (outS T st.1 g (e - 1) st)) h2
              rw [show e - 1 + 1 = e by omega]
              exact hs2) h622 hG2 F2 (jI_add _ _)
            rw [show e + 1 - 1 = e by omega] at this
            exact this
          · simp (disch := omega) only [mj_lcm, jI_lt, jI_le, jI_eq, jL_lt, jL_le, jL_eq, jI_lt0, jI_0le, jI_0lt, jI_le0, jI_eq0, jL_eq0, jI_L, jI_add, jI_sub, jI_mul, jI_neg, jL_add, jL_sub, jL_mul, jL_neg, jL_I, jI_div, jI_mod, jL_div, jL_mod] at c
            omega
        | succ t2 ih2 =>
          rintro i iI h2 ht2 hs2 h622 hG2 F2 rfl
          have L2 := L.F F2 (fun _ z => z.elim)
          have hT2 := hT.F F2 (by omega)
          obtain ⟨k1, z1, k2, k3⟩ := innS_pre T st.1 e (pw (mulC T) (oneC T) g e) (outS T st.1 g (e - 1) st) i (by omega)
          have hbi : st.1[i]? = some st.1[i] := List.getElem?_eq_getElem (by omega)
          generalize st.1[i] = m at hbi
          have hml := m.isLt
          have hmem : (innS T st.1 e (pw (mulC T) (oneC T) g e) i (outS T st.1 g (e - 1) st)).1[i]? = some m := by
            rw [k2, q2, List.append_assoc, List.getElem?_append_left (by omega)]
            exact hbi
          have hmi : m ∈ (innS T st.1 e (pw (mulC T) (oneC T) g e) i (outS T st.1 g (e - 1) st)).1 := List.mem_of_getElem? hmem
          have hv : hI h2 63 i = jI m.val := hs2.2.2.2.1 i m hmem
          have hlen : (innS T st.1 e (pw (mulC T) (oneC T) g e) i (outS T st.1 g (e - 1) st)).1.length < 4096 := by
            rw [k2, q2, List.length_append, List.length_append, k3, q3]
            omega
          have hgs : (innS T st.1 e (pw (mulC T) (oneC T) g e) i (outS T st.1 g (e - 1) st)).2.2.length < 8 := by
            rw [k1, q1]
            exact hgi
          have hne : mulC T m (pw (mulC T) (oneC T) g e) ≠ m := fun z => hpne (gp_cancel Gp (z.trans (gp_e Gp m).symm))
          have es : innS T st.1 e (pw (mulC T) (oneC T) g e) (i + 1) (outS T st.1 g (e - 1) st) = putS T e (pw (mulC T) (oneC T) g e) (innS T st.1 e (pw (mulC T) (oneC T) g e) i (outS T st.1 g (e - 1) st)) m := by
            show (match st.1[i]? with | some m => putS T e _ (innS T st.1 e _ i _) m | none => _) = _
            rw [hbi]
          refine hR 60 27 _ _ _ _ _ _ rfl ?_
          refine ⟨fun c => ?_, fun c => ?_⟩
          · simp (disch := omega) only [mj_lcm, jI_lt, jI_le, jI_eq, jL_lt, jL_le, jL_eq, jI_lt0, jI_0le, jI_0lt, jI_le0, jI_eq0, jL_eq0, jI_L, jI_add, jI_sub, jI_mul, jI_neg, jL_add, jL_sub, jL_mul, jL_neg, jL_I, jI_div, jI_mod, jL_div, jL_mod] at c
            omega
          · refine ⟨L2.K 52 rfl, _, L2.R 52 10 _ rfl, L2.K 63 rfl, ?_, ?_⟩
            · rw [show hN h2 63 = 4096 from L2.N 62 rfl]
              exact jI_in (by omega) (by omega) (by omega)
            · rw [jI_nat (by omega) (by omega), Int.toNat_natCast, hv]
              refine ⟨L2.K 52 rfl, jcallP (ct_91 G L2 T hT2 hs2 hmi hne hlen hgs (e := e) (by omega)) ?_⟩
              rintro oo h3 ⟨rfl, hs3, h35, F3⟩
              rw [← es] at hs3
              exact ih2 (i + 1) _ h3 (by omega) hs3 ((F3.I (by omega) _).trans h622) ⟨h35.trans hG2.1, fun x => (F3.I (by omega) _).trans (hG2.2 x)⟩ (F2.trans (F3.mono (by intro a z; omega) (fun _ z => z))) (jI_add _ _)
      refine hR 60 14 _ _ _ _ _ _ rfl ?_
      refine ⟨L0.K 52 rfl, _, L0.R 52 6 _ rfl, L0.K 61 rfl, vin L0, ?_⟩
      rw [nat, hG'.2 g]
      refine ⟨fun c => ?_, fun c => ?_⟩
      · simp (disch := omega) only [mj_lcm, jI_lt, jI_le, jI_eq, jL_lt, jL_le, jL_eq, jI_lt0, jI_0le, jI_0lt, jI_le0, jI_eq0, jL_eq0, jI_L, jI_add, jI_sub, jI_mul, jI_neg, jL_add, jL_sub, jL_mul, jL_neg, jL_I, jI_div, jI_mod, jL_div, jL_mod] at c
        omega
      · refine ⟨L0.K 52 rfl, jcallP (ct_78 G L0 T hT0 (pw (mulC T) (oneC T) g (e - 1)) g) ?_⟩
        rintro oo h3 ⟨rfl, F3⟩
        rw [epw]
        exact r44 st.1.length 0 _ h3 (by omega) (hs'.F F3 (by omega)) ((F3.I (by omega) _).trans h62) (hG'.F F3 (by omega) (by omega)) (F.trans (F3.mono (by intro a z; omega) (fun _ z => z))) rfl
  have hs62 : isGs st (sI h 62 st.2.2.length (jI g.val)) := by
    obtain ⟨s1, s2, s3, s4, s5, s6, s7⟩ := hs
    refine ⟨(congrFun (sI_a _ (by decide) _ _) _).trans s1, (congrFun (sI_a _ (by decide) _ _) _).trans s2, s3, fun i y hy => (congrFun (sI_a _ (by decide) _ _) _).trans (s4 i y hy), fun y => (congrFun (sI_a _ (by decide) _ _) _).trans (s5 y), fun y hy i hi => ⟨(congrFun (sI_a _ (by decide) _ _) _).trans (s6 y hy i hi).1, (s6 y hy i hi).2⟩, fun i g' hg' => ?_⟩
    have := lt_of_some hg'
    exact (sI_k _ _ (by omega) _).trans (s7 i g' hg')
  have F1 : Fr inGj noT h (sI h 62 st.2.2.length (jI g.val)) := (Fr.refl inGj noT h).sI (by omega) _ _
  have q1 : Fr (fun a => a = 62) noT h (sI h 62 st.2.2.length (jI g.val)) := (Fr.refl (fun a => a = 62) noT h).sI rfl _ _
  have L1 := L.F F1 (fun _ z => z.elim)
  have hG1 := hG.F q1 (by omega) (by omega)
  have h621 : hI (sI h 62 st.2.2.length (jI g.val)) 62 st.2.2.length = jI g.val := sI_at _ _ _ _
  generalize hh1 : sI h 62 st.2.2.length (jI g.val) = h1 at hs62 F1 q1 L1 hG1 h621
  have r20 : ∀ (x4 x5 : Option Value), Run 20 [some (.ref 52), some (.int (jI g.val)), some (.int (jI st.1.length)), some (.int (jI (oneC T).val)), x4, x5] [] h1 (0, 0) := by
    intro x4 x5
    refine hR 60 12 _ _ _ _ _ _ rfl ?_
    exact r23 (o g - 1) 1 _ h1 _ (by omega) (by omega) hs62 h621 hG1 F1 rfl
  have r10 : ∀ (x2 x3 x4 x5 : Option Value), Run 10 [some (.ref 52), some (.int (jI g.val)), x2, x3, x4, x5] [] h1 (0, 0) := by
    intro x2 x3 x4 x5
    have := r20 x4 x5
    rw [← hG1.1, ← hs62.2.1] at this
    refine hR 60 6 _ _ _ _ _ _ rfl ?_
    refine ⟨L1.K 52 rfl, L1.K 52 rfl, ?_⟩
    exact this
  refine hR 60 0 _ _ _ _ _ _ rfl ?_
  refine ⟨L.K 52 rfl, _, L.R 52 8 _ rfl, L.K 52 rfl, ?_⟩
  rw [hs.1]
  refine ⟨L.K 62 rfl, ?_, ?_⟩
  · rw [show hN h 62 = 8 from L.N 61 rfl]
    exact jI_in (by omega) (by omega) (by omega)
  · rw [jI_nat (by omega) (by omega), Int.toNat_natCast, hh1]
    exact r10 _ _ _ _
end
