/-! contract: the order of a class and of its powers -/
abbrev inGm (a : Nat) : Prop := (54 ≤ a ∧ a ≤ 61) ∨ a = 66
/-- FormHouse$Group.measure(I)V; cuts at [7, 17, 27, 35, 38, 67] -/
def cl_77_1 : List mj_E := (36, false, .istore 4, 2, 0, 0, 0, 0, 0) ::
  (38, true, .iload 4, 2, 0, 0, 0, 0, 0) ::
  (40, false, .iload_n 2, 1, 0, 0, 0, 0, 0) ::
  (41, false, .if_icmp .gt 32, 3, 45, 0, 0, 0, 0) ::
  (44, false, .aload_n 0, 1, 0, 0, 0, 0, 0) ::
  (45, false, .getfield 24, 3, 8, 6, 2, 0, 0) ::
  (48, false, .aload_n 0, 1, 0, 0, 0, 0, 0) ::
  (49, false, .getfield 43, 3, 8, 13, 2, 0, 0) ::
  (52, false, .iload 4, 2, 0, 0, 0, 0, 0) ::
  (54, false, .iconst 1, 1, 0, 0, 0, jI 1, 0) ::
  (55, false, .isub, 1, 0, 0, 0, 0, 0) ::
  (56, false, .saload, 1, 0, 0, 0, 0, 0) ::
  (57, false, .iload_n 2, 1, 0, 0, 0, 0, 0) ::
  (58, false, .iload_n 2, 1, 0, 0, 0, 0, 0) ::
  (59, false, .iload 4, 2, 0, 0, 0, 0, 0) ::
  (61, false, .invokestatic 117, 3, 85, 2, 0, 0, 0) ::
  (64, false, .idiv, 1, 0, 0, 0, 0, 0) ::
  (65, false, .i2s, 1, 0, 0, 0, 0, 0) ::
  (66, false, .sastore, 1, 0, 0, 0, 0, 0) ::
  (67, true, .iinc 4 1, 3, 0, 0, 0, jI 1, 0) ::
  (70, false, .goto (-32), 3, 25, 0, 0, 0, 0) ::
  (73, false, .return_, 1, 0, 0, 0, 0, 0) ::
  []
def cl_77_0 : List mj_E := (0, false, .iconst 0, 1, 0, 0, 0, jI 0, 0) ::
  (1, false, .istore_n 2, 1, 0, 0, 0, 0, 0) ::
  (2, false, .aload_n 0, 1, 0, 0, 0, 0, 0) ::
  (3, false, .getfield 84, 3, 8, 5, 0, 0, 0) ::
  (6, false, .istore_n 3, 1, 0, 0, 0, 0, 0) ::
  (7, true, .aload_n 0, 1, 0, 0, 0, 0, 0) ::
  (8, false, .iload_n 3, 1, 0, 0, 0, 0, 0) ::
  (9, false, .iload_n 1, 1, 0, 0, 0, 0, 0) ::
  (10, false, .invokevirtual 92, 3, 78, 2, 8, 0, 0) ::
  (13, false, .istore_n 3, 1, 0, 0, 0, 0, 0) ::
  (14, false, .iinc 2 1, 3, 0, 0, 0, jI 1, 0) ::
  (17, true, .aload_n 0, 1, 0, 0, 0, 0, 0) ::
  (18, false, .getfield 43, 3, 8, 13, 2, 0, 0) ::
  (21, false, .iload_n 2, 1, 0, 0, 0, 0, 0) ::
  (22, false, .iconst 1, 1, 0, 0, 0, jI 1, 0) ::
  (23, false, .isub, 1, 0, 0, 0, 0, 0) ::
  (24, false, .iload_n 3, 1, 0, 0, 0, 0, 0) ::
  (25, false, .i2s, 1, 0, 0, 0, 0, 0) ::
  (26, false, .sastore, 1, 0, 0, 0, 0, 0) ::
  (27, true, .iload_n 3, 1, 0, 0, 0, 0, 0) ::
  (28, false, .aload_n 0, 1, 0, 0, 0, 0, 0) ::
  (29, false, .getfield 84, 3, 8, 5, 0, 0, 0) ::
  (32, false, .if_icmp .ne (-25), 3, 5, 0, 0, 0, 0) ::
  (35, true, .iconst 1, 1, 0, 0, 0, jI 1, 0) ::
  cl_77_1
def cd_77 : List mj_E := cl_77_0
def cx_77 : mj_X := (0, [], [])
theorem tb_77 : mj_tab (mj_mt 77) cx_77 cd_77 mj_mh [(0, 0, 0), (0, 0, 0), (0, 0, 0), (2079, 0, 0), (0, 0, 0), (0, 0, 0), (0, 0, 0), (0, 0, 0), (4111, 0, 0), (0, 0, 0), (0, 0, 0), (0, 0, 0), (2092, 0, 0), (0, 0, 0), (0, 0, 0), (0, 0, 0), (0, 0, 0), (0, 0, 0), (0, 0, 0), (0, 0, 0), (0, 0, 0), (2079, 0, 0), (0, 0, 0), (0, 0, 0), (0, 0, 0), (0, 0, 0), (0, 0, 0), (0, 0, 0), (0, 0, 0), (2081, 0, 0), (0, 0, 0), (2092, 0, 0), (0, 0, 0), (0, 0, 0), (0, 0, 0), (0, 0, 0), (0, 0, 0), (0, 0, 0), (0, 0, 0), (4147, 0, 0), (0, 0, 0), (0, 0, 0), (0, 0, 0), (0, 0, 0), (0, 0, 0), (0, 0, 0)] = true := mj_tab_f (by decide +kernel)
theorem ct_77 (G : mj_G) {h : mj_H} (L : isLay h) {d w : Int} {n : Nat} {A : Nat → pI} {nxt : Nat → Nat} {cls : Nat → Int} {cnt : Nat} {nm : Nat → Nat} (T : isTF d w n A nxt cls cnt nm) (hT : isTB h d w n A cls cnt nm) {o : Fin cnt → Nat} (hP : hI h 52 5 = jI (oneC T).val) (ho : ∀ x, isOrd (mulC T) (oneC T) x (o x) ∧ o x ≤ 4096) (x : Fin cnt) : mj_Ct G (mj_mt 77) 0 0 [.ref 52, .int (jI x.val)] h (fun oc h' => oc = .returned none ∧ (∀ i, hI h' 61 (pw (mulC T) (oneC T) x i).val = jI (o (pw (mulC T) (oneC T) x i))) ∧ (∀ y : Fin cnt, hI h' 61 y.val = hI h 61 y.val ∨ hI h' 61 y.val = jI (o y)) ∧ Fr inGm noT h h') := by
  have Gp := gpC T
  obtain ⟨hx1, hx2⟩ := ho x
  have hx0 := hx1.1
  have hcnt := T.1.2.2.2.2.2.1
  have hxl := x.isLt
  have hlt : ∀ y : Fin cnt, y.val < 4096 := fun y => by have := y.isLt; omega
  refine mj_Ct_of mj_ok tb_77 rfl rfl (Nat.le_of_ble_eq_true rfl) (fun Run hR => ?_)
  -- the orders of the powers
  have r38 : ∀ (m i : Nat) (iI : Int32) (h' : mj_H), i + m = o x + 1 → 1 ≤ i → (∀ j, j < o x → hI h' 66 j = jI (pw (mulC T) (oneC T) x (j + 1)).val) → (∀ j, 1 ≤ j → j < i → hI h' 61 (pw (mulC T) (oneC T) x j).val = jI (o (pw (mulC T) (oneC T) x j))) → (∀ y : Fin cnt, hI h' 61 y.val = hI h 61 y.val ∨ hI h' 61 y.val = jI (o y)) → Fr inGm noT h h' → iI = jI i → Run 38 [some (.ref 52), some (.int (jI x.val)), some (.int (jI (o x))), some (.int (jI (oneC T).val)), some (.int iI)] [] h' (0, 0) := by
    intro m
    induction m with
    | zero =>
      rintro i iI h' hm h1 hp ha hb F rfl
      refine hR 60 25 _ _ _ _ _ _ rfl ?_
      refine ⟨fun c => ?_, fun c => ?_⟩
      · refine ⟨rfl, fun j => ?_, hb, F⟩
        have hmod := ord_mod Gp hx1 j
        have hml := Nat.mod_lt j hx0
        by_cases z : j % o x = 0
        · have e1 : pw (mulC T) (oneC T) x j = pw (mulC T) (oneC T) x (o x) := by
            rw [← hmod, z, hx1.2.1]
            rfl
          rw [e1]
          exact ha (o x) (by omega) (by omega)
        · rw [← hmod]
          exact ha (j % o x) (by omega) (by omega)
      · simp (disch := omega) only [mj_lcm, jI_lt, jI_le, jI_eq, jL_lt, jL_le, jL_eq, jI_lt0, jI_0le, jI_0lt, jI_le0, jI_eq0, jL_eq0, jI_L, jI_add, jI_sub, jI_mul, jI_neg, jL_add, jL_sub, jL_mul, jL_neg, jL_I, jI_div, jI_mod, jL_div, jL_mod] at c
        omega
    | succ m ih =>
      rintro i iI h' hm h1 hp ha hb F rfl
      have L0 := L.F F (fun _ z => z.elim)
      refine hR 60 25 _ _ _ _ _ _ rfl ?_
      refine ⟨fun c => ?_, fun c => ?_⟩
      · simp (disch := omega) only [mj_lcm, jI_lt, jI_le, jI_eq, jL_lt, jL_le, jL_eq, jI_lt0, jI_0le, jI_0lt, jI_le0, jI_eq0, jL_eq0, jI_L, jI_add, jI_sub, jI_mul, jI_neg, jL_add, jL_sub, jL_mul, jL_neg, jL_I, jI_div, jI_mod, jL_div, jL_mod] at c
        omega
      · have ei : jI (i : Int) - jI 1 = jI ((i - 1 : Nat) : Int) := by
          rw [jI_sub]
          congr 1
          omega
        have hpi := hp (i - 1) (by omega)
        rw [show i - 1 + 1 = i by omega] at hpi
        generalize hy : pw (mulC T) (oneC T) x i = y at hpi
        have hoy : o y = o x / Nat.gcd (o x) i := by
          refine ord_unique (ho y).1 ?_
          rw [← hy]
          exact ord_pw Gp hx1 i
        have hol := (ho y).2
        have hgp : 0 < Nat.gcd (o x) i := Nat.gcd_pos_of_pos_left _ hx0
        refine ⟨L0.K 52 rfl, _, L0.R 52 6 _ rfl, L0.K 52 rfl, _, L0.R 52 13 _ rfl, L0.K 66 rfl, ?_, ?_⟩
        · rw [ei, show hN h' 66 = 4096 from L0.N 65 rfl]
          exact jI_in (by omega) (by omega) (by omega)
        · rw [ei, jI_nat (by omega) (by omega), Int.toNat_natCast, hpi]
          refine jcall (ct_85 G (x := o x) (y := i) (by omega) (by omega) h') ?_
          have hyl := hlt y
          refine ⟨?_, L0.K 61 rfl, ?_, ?_⟩
          · have hgle := Nat.gcd_le_left i hx0
            simp (disch := omega) only [mj_lcm, jI_lt, jI_le, jI_eq, jL_lt, jL_le, jL_eq, jI_lt0, jI_0le, jI_0lt, jI_le0, jI_eq0, jL_eq0, jI_L, jI_add, jI_sub, jI_mul, jI_neg, jL_add, jL_sub, jL_mul, jL_neg, jL_I, jI_div, jI_mod, jL_div, jL_mod]
            omega
          · rw [show hN h' 61 = 4096 from L0.N 60 rfl]
            exact jI_in (by omega) (by omega) (by omega)
          · have hgle := Nat.gcd_le_left i hx0
            have ev : jI (o x : Int) / jI ((Nat.gcd (o x) i : Nat) : Int) = jI (o y : Int) := by
              rw [jI_div (by omega) (by omega) (by omega) (by omega), Int.tdiv_eq_ediv_of_nonneg (by omega), hoy]
              rfl
            rw [jI_nat (by omega) (by omega), Int.toNat_natCast, ev, jI_s (by omega) (by omega), jI_s (by omega) (by omega)]
            have r67 : Run 67 [some (.ref 52), some (.int (jI x.val)), some (.int (jI (o x))), some (.int (jI (oneC T).val)), some (.int (jI i))] [] (sI h' 61 y.val (jI (o y))) (0, 0) := by
              refine hR 60 43 _ _ _ _ _ _ rfl ?_
              refine ih (i + 1) _ _ (by omega) (by omega) (fun j hj => ?_) (fun j j1 j2 => ?_) (fun z => ?_) (F.sI (by omega) _ _) (jI_add _ _)
              · rw [← hp j hj]
                exact congrFun (sI_a _ (by decide) _ _) j
              · by_cases e : (pw (mulC T) (oneC T) x j).val = y.val
                · have e2 : pw (mulC T) (oneC T) x j = y := Fin.ext e
                  rw [e2]
                  exact sI_at _ _ _ _
                · refine (sI_k _ _ e _).trans (ha j j1 ?_)
                  rcases Nat.lt_or_ge j i with g | g
                  · exact g
                  · exfalso
                    have : j = i := by omega
                    subst this
                    exact e (by rw [hy])
              · by_cases e : z.val = y.val
                · have e2 : z = y := Fin.ext e
                  subst e2
                  exact Or.inr (sI_at _ _ _ _)
                · rcases hb z with g | g
                  · exact Or.inl ((sI_k _ _ e _).trans g)
                  · exact Or.inr ((sI_k _ _ e _).trans g)
            exact r67
  have r35 : ∀ (h' : mj_H) (x4 : Option Value), (∀ j, j < o x → hI h' 66 j = jI (pw (mulC T) (oneC T) x (j + 1)).val) → h'.1 61 = h.1 61 → Fr inGm noT h h' → Run 35 [some (.ref 52), some (.int (jI x.val)), some (.int (jI (o x))), some (.int (jI (oneC T).val)), x4] [] h' (0, 0) := by
    intro h' x4 hp h61 F
    refine hR 60 23 _ _ _ _ _ _ rfl ?_
    exact r38 (o x) 1 _ h' (by omega) (by omega) hp (fun j j1 j2 => by omega) (fun y => Or.inl (congrFun h61 _)) F rfl
  have loop : ∀ (m i : Nat) (nI pI : Int32) (h' : mj_H) (x4 : Option Value), i + (m + 1) = o x → (∀ j, j < i → hI h' 66 j = jI (pw (mulC T) (oneC T) x (j + 1)).val) → h'.1 61 = h.1 61 → Fr inGm noT h h' → nI = jI i → pI = jI (pw (mulC T) (oneC T) x i).val → Run 7 [some (.ref 52), some (.int (jI x.val)), some (.int nI), some (.int pI), x4] [] h' (0, 0) := by
    intro m
    have step : ∀ (i : Nat) (nI pI : Int32) (h' : mj_H) (x4 : Option Value), i < o x → (∀ j, j < i → hI h' 66 j = jI (pw (mulC T) (oneC T) x (j + 1)).val) → h'.1 61 = h.1 61 → Fr inGm noT h h' → nI = jI i → pI = jI (pw (mulC T) (oneC T) x i).val → (i + 1 ≠ o x → ∀ (h2 : mj_H), (∀ j, j < i + 1 → hI h2 66 j = jI (pw (mulC T) (oneC T) x (j + 1)).val) → h2.1 61 = h.1 61 → Fr inGm noT h h2 → Run 7 [some (.ref 52), some (.int (jI x.val)), some (.int (jI ((i + 1 : Nat) : Int))), some (.int (jI (pw (mulC T) (oneC T) x (i + 1)).val)), x4] [] h2 (0, 0)) → Run 7 [some (.ref 52), some (.int (jI x.val)), some (.int nI), some (.int pI), x4] [] h' (0, 0) := by
      rintro i nI pI h' x4 hi hp h61 F rfl rfl cont
      have L0 := L.F F (fun _ z => z.elim)
      have hT0 := hT.F F (by omega)
      have hyl := hlt (pw (mulC T) (oneC T) x (i + 1))
      have r27 : ∀ (h2 : mj_H), (∀ j, j < i + 1 → hI h2 66 j = jI (pw (mulC T) (oneC T) x (j + 1)).val) → h2.1 61 = h.1 61 → Fr inGm noT h h2 → Run 27 [some (.ref 52), some (.int (jI x.val)), some (.int (jI ((i + 1 : Nat) : Int))), some (.int (jI (pw (mulC T) (oneC T) x (i + 1)).val)), x4] [] h2 (0, 0) := by
        intro h2 hp2 h612 F2
        have L2 := L.F F2 (fun _ z => z.elim)
        have hP2 : hI h2 52 5 = jI (oneC T).val := (F2.I (by omega) _).trans hP
        have h1l := hlt (oneC T)
        refine hR 60 19 _ _ _ _ _ _ rfl ?_
        refine ⟨L2.K 52 rfl, ?_⟩
        rw [hP2]
        refine ⟨fun c => ?_, fun c => ?_⟩
        · simp (disch := omega) only [mj_lcm, jI_lt, jI_le, jI_eq, jL_lt, jL_le, jL_eq, jI_lt0, jI_0le, jI_0lt, jI_le0, jI_eq0, jL_eq0, jI_L, jI_add, jI_sub, jI_mul, jI_neg, jL_add, jL_sub, jL_mul, jL_neg, jL_I, jI_div, jI_mod, jL_div, jL_mod] at c
          have e1 : pw (mulC T) (oneC T) x (i + 1) = oneC T := Fin.ext (by omega)
          have e2 : i + 1 = o x := by
            by_cases z : i + 1 < o x
            · exact absurd e1 (hx1.2.2 (i + 1) (by omega) z)
            · omega
          rw [e1, e2]
          rw [e2] at hp2
          exact r35 h2 _ hp2 h612 F2
        · simp (disch := omega) only [mj_lcm, jI_lt, jI_le, jI_eq, jL_lt, jL_le, jL_eq, jI_lt0, jI_0le, jI_0lt, jI_le0, jI_eq0, jL_eq0, jI_L, jI_add, jI_sub, jI_mul, jI_neg, jL_add, jL_sub, jL_mul, jL_neg, jL_I, jI_div, jI_mod, jL_div, jL_mod] at c
          have e2 : i + 1 ≠ o x := by
            intro e
            apply c
            rw [e, hx1.2.1]
          exact cont e2 h2 hp2 h612 F2
      have r17 : ∀ (nI : Int32) (h2 : mj_H), nI = jI ((i + 1 : Nat) : Int) → (∀ j, j < i → hI h2 66 j = jI (pw (mulC T) (oneC T) x (j + 1)).val) → h2.1 61 = h.1 61 → Fr inGm noT h h2 → Run 17 [some (.ref 52), some (.int (jI x.val)), some (.int nI), some (.int (jI (pw (mulC T) (oneC T) x (i + 1)).val)), x4] [] h2 (0, 0) := by
        rintro nI h2 rfl hp2 h612 F2
        have L2 := L.F F2 (fun _ z => z.elim)
        have ei : jI ((i + 1 : Nat) : Int) - jI 1 = jI (i : Int) := by
          rw [jI_sub]
          congr 1
          omega
        refine hR 60 11 _ _ _ _ _ _ rfl ?_
        refine ⟨L2.K 52 rfl, _, L2.R 52 13 _ rfl, L2.K 66 rfl, ?_, ?_⟩
        · rw [ei, show hN h2 66 = 4096 from L2.N 65 rfl]
          exact jI_in (by omega) (by omega) (by omega)
        · rw [ei, jI_nat (by omega) (by omega), Int.toNat_natCast, jI_s (by omega) (by omega), jI_s (by omega) (by omega)]
          refine r27 _ (fun j hj => ?_) ((sI_a _ (by decide) _ _).trans h612) (F2.sI (by omega) _ _)
          by_cases e : j = i
          · subst e
            exact sI_at _ _ _ _
          · exact (sI_k _ _ e _).trans (hp2 j (by omega))
      refine hR 60 5 _ _ _ _ _ _ rfl ?_
      refine ⟨L0.K 52 rfl, jcallP (ct_78 G L0 T hT0 (pw (mulC T) (oneC T) x i) x) ?_⟩
      rintro oo h3 ⟨rfl, F3⟩
      refine r17 _ h3 (jI_add _ _) (fun j hj => ?_) ((F3.2.1 61 (by omega)).1.trans h61) (F.trans (F3.mono (by intro a z; omega) (fun _ z => z)))
      rw [← hp j hj]
      exact F3.I (by omega) _
    induction m with
    | zero =>
      intro i nI pI h' x4 hi hp h61 F e1 e2
      exact step i nI pI h' x4 (by omega) hp h61 F e1 e2 (fun z => by omega)
    | succ m ih =>
      intro i nI pI h' x4 hi hp h61 F e1 e2
      exact step i nI pI h' x4 (by omega) hp h61 F e1 e2 (fun z h2 hp2 h612 F2 => ih (i + 1) _ _ h2 x4 (by omega) hp2 h612 F2 rfl rfl)
  refine hR 60 0 _ _ _ _ _ _ rfl ?_
  refine ⟨L.K 52 rfl, ?_⟩
  exact loop (o x - 1) 0 _ _ h _ (by omega) (fun j hj => absurd hj (Nat.not_lt_zero j)) rfl (Fr.refl _ _ _) rfl hP
