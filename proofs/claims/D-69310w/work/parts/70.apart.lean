/-! contract: whether a class lies apart from those that are made -/
abbrev gS (cnt : Nat) : Type := List (Fin cnt) × (Fin cnt → Nat → Nat) × List (Fin cnt)
/-- members, exponents and generators lie in the heap -/
def isGs {cnt : Nat} (st : gS cnt) (h : mj_H) : Prop := hI h 52 7 = jI st.2.2.length ∧ hI h 52 9 = jI st.1.length ∧ (st.1.length ≤ 4096 ∧ st.2.2.length ≤ 8 ∧ cnt ≤ 4096) ∧ (∀ i y, st.1[i]? = some y → hI h 63 i = jI y.val) ∧ (∀ y : Fin cnt, hI h 64 y.val = jI (if y ∈ st.1 then 1 else 0)) ∧ (∀ y : Fin cnt, y ∈ st.1 → ∀ i, i < 8 → hI h 65 (8 * y.val + i) = jI (st.2.1 y i) ∧ st.2.1 y i < 32768) ∧ ∀ i g, st.2.2[i]? = some g → hI h 62 i = jI g.val
theorem isGs.F {S T : Nat → Prop} {h h' : mj_H} (f : Fr S T h h') {cnt : Nat} {st : gS cnt} (a : isGs st h) (hs : ∀ x, x = 52 ∨ (62 ≤ x ∧ x ≤ 65) → ¬ S x) : isGs st h' := by
  obtain ⟨a1, a2, a3, a4, a5, a6, a7⟩ := a
  refine ⟨(f.I (hs 52 (by omega)) _).trans a1, (f.I (hs 52 (by omega)) _).trans a2, a3, fun i y hy => (f.I (hs 63 (by omega)) _).trans (a4 i y hy), fun y => (f.I (hs 64 (by omega)) _).trans (a5 y), fun y hy i hi => ⟨(f.I (hs 65 (by omega)) _).trans (a6 y hy i hi).1, (a6 y hy i hi).2⟩, fun i g hg => (f.I (hs 62 (by omega)) _).trans (a7 i g hg)⟩
section
variable {d w : Int} {n : Nat} {A : Nat → pI} {nxt : Nat → Nat} {cls : Nat → Int} {cnt : Nat} {nm : Nat → Nat}
theorem isGr.F {S T' : Nat → Prop} {h h' : mj_H} (f : Fr S T' h h') {T : isTF d w n A nxt cls cnt nm} {o : Fin cnt → Nat} (a : isGr T o h) (h1 : ¬ S 52) (h2 : ¬ S 61) : isGr T o h' := ⟨(f.I h1 _).trans a.1, fun x => (f.I h2 _).trans (a.2 x)⟩
/-- no power of prime order is made -/
def aptP (T : isTF d w n A nxt cls cnt nm) (o : Fin cnt → Nat) (mem : List (Fin cnt)) (x : Fin cnt) : Prop := 1 < o x ∧ ∀ p, Pr p → p ∣ o x → ¬ pw (mulC T) (oneC T) x (o x / p) ∈ mem
/-- FormHouse$Group.isApart(I)Z; cuts at [17, 21, 40, 68, 83, 89] -/
def cl_87_2 : List mj_E := (79, false, .istore_n 2, 1, 0, 0, 0, 0, 0) ::
  (80, false, .goto (-12), 3, 41, 0, 0, 0, 0) ::
  (83, true, .iinc 4 1, 3, 0, 0, 0, jI 1, 0) ::
  (86, false, .goto (-65), 3, 14, 0, 0, 0, 0) ::
  (89, true, .iload_n 3, 1, 0, 0, 0, 0, 0) ::
  (90, false, .ireturn, 1, 0, 0, 0, 0, 0) ::
  []
def cl_87_1 : List mj_E := (40, true, .aload_n 0, 1, 0, 0, 0, 0, 0) ::
  (41, false, .getfield 35, 3, 8, 11, 2, 0, 0) ::
  (44, false, .aload_n 0, 1, 0, 0, 0, 0, 0) ::
  (45, false, .iload_n 1, 1, 0, 0, 0, 0, 0) ::
  (46, false, .aload_n 0, 1, 0, 0, 0, 0, 0) ::
  (47, false, .getfield 24, 3, 8, 6, 2, 0, 0) ::
  (50, false, .iload_n 1, 1, 0, 0, 0, 0, 0) ::
  (51, false, .saload, 1, 0, 0, 0, 0, 0) ::
  (52, false, .iload 4, 2, 0, 0, 0, 0, 0) ::
  (54, false, .idiv, 1, 0, 0, 0, 0, 0) ::
  (55, false, .invokevirtual 133, 3, 88, 2, 8, 0, 0) ::
  (58, false, .baload, 1, 0, 0, 0, 0, 0) ::
  (59, false, .ifCond .ne 7, 3, 39, 0, 0, 0, 0) ::
  (62, false, .iconst 1, 1, 0, 0, 0, jI 1, 0) ::
  (63, false, .goto 4, 3, 40, 0, 0, 0, 0) ::
  (66, false, .iconst 0, 1, 0, 0, 0, jI 0, 0) ::
  (67, false, .istore_n 3, 1, 0, 0, 0, 0, 0) ::
  (68, true, .iload_n 2, 1, 0, 0, 0, 0, 0) ::
  (69, false, .iload 4, 2, 0, 0, 0, 0, 0) ::
  (71, false, .irem, 1, 0, 0, 0, 0, 0) ::
  (72, false, .ifCond .ne 11, 3, 50, 0, 0, 0, 0) ::
  (75, false, .iload_n 2, 1, 0, 0, 0, 0, 0) ::
  (76, false, .iload 4, 2, 0, 0, 0, 0, 0) ::
  (78, false, .idiv, 1, 0, 0, 0, 0, 0) ::
  cl_87_2
def cl_87_0 : List mj_E := (0, false, .aload_n 0, 1, 0, 0, 0, 0, 0) ::
  (1, false, .getfield 24, 3, 8, 6, 2, 0, 0) ::
  (4, false, .iload_n 1, 1, 0, 0, 0, 0, 0) ::
  (5, false, .saload, 1, 0, 0, 0, 0, 0) ::
  (6, false, .istore_n 2, 1, 0, 0, 0, 0, 0) ::
  (7, false, .iload_n 2, 1, 0, 0, 0, 0, 0) ::
  (8, false, .iconst 1, 1, 0, 0, 0, jI 1, 0) ::
  (9, false, .if_icmp .le 7, 3, 10, 0, 0, 0, 0) ::
  (12, false, .iconst 1, 1, 0, 0, 0, jI 1, 0) ::
  (13, false, .goto 4, 3, 11, 0, 0, 0, 0) ::
  (16, false, .iconst 0, 1, 0, 0, 0, jI 0, 0) ::
  (17, true, .istore_n 3, 1, 0, 0, 0, 0, 0) ::
  (18, false, .iconst 2, 1, 0, 0, 0, jI 2, 0) ::
  (19, false, .istore 4, 2, 0, 0, 0, 0, 0) ::
  (21, true, .iload_n 2, 1, 0, 0, 0, 0, 0) ::
  (22, false, .iconst 1, 1, 0, 0, 0, jI 1, 0) ::
  (23, false, .if_icmp .le 66, 3, 52, 0, 0, 0, 0) ::
  (26, false, .iload_n 3, 1, 0, 0, 0, 0, 0) ::
  (27, false, .ifCond .eq 62, 3, 52, 0, 0, 0, 0) ::
  (30, false, .iload_n 2, 1, 0, 0, 0, 0, 0) ::
  (31, false, .iload 4, 2, 0, 0, 0, 0, 0) ::
  (33, false, .irem, 1, 0, 0, 0, 0, 0) ::
  (34, false, .ifCond .eq 6, 3, 24, 0, 0, 0, 0) ::
  (37, false, .goto 46, 3, 50, 0, 0, 0, 0) ::
  cl_87_1
def cd_87 : List mj_E := cl_87_0
def cx_87 : mj_X := (4, [], [])
theorem tb_87 : mj_tab (mj_mt 87) cx_87 cd_87 mj_mh [(0, 0, 0), (2081, 0, 0), (0, 0, 0), (0, 0, 0), (0, 0, 0), (0, 0, 0), (0, 0, 0), (0, 0, 0), (0, 0, 0), (0, 0, 0), (0, 0, 0), (0, 0, 0), (0, 0, 0), (0, 0, 0), (0, 0, 0), (0, 0, 0), (0, 0, 0), (0, 0, 0), (0, 0, 0), (0, 0, 0), (0, 0, 0), (0, 0, 0), (0, 0, 0), (0, 0, 0), (0, 0, 0), (2089, 0, 0), (0, 0, 0), (0, 0, 0), (0, 0, 0), (2081, 0, 0), (0, 0, 0), (0, 0, 0), (0, 0, 0), (0, 0, 0), (4158, 0, 0), (0, 0, 0), (0, 0, 0), (0, 0, 0), (0, 0, 0), (0, 0, 0), (0, 0, 0), (0, 0, 0), (0, 0, 0), (0, 0, 0), (0, 0, 0), (0, 0, 0), (0, 0, 0), (0, 0, 0), (0, 0, 0), (0, 0, 0), (0, 0, 0), (0, 0, 0), (0, 0, 0), (0, 0, 0)] = true := mj_tab_f (by decide +kernel)
theorem ct_87 (G : mj_G) {h : mj_H} (L : isLay h) (T : isTF d w n A nxt cls cnt nm) (hT : isTB h d w n A cls cnt nm) {o : Fin cnt → Nat} (hG : isGr T o h) (ho : ∀ x, isOrd (mulC T) (oneC T) x (o x) ∧ o x ≤ 4096) {st : gS cnt} (hs : isGs st h) (x : Fin cnt) : mj_Ct G (mj_mt 87) 0 0 [.ref 52, .int (jI x.val)] h (fun oc h' => (∃ v : Int, oc = .returned (some (.int (jI v))) ∧ ((v = 1 ∧ aptP T o st.1 x) ∨ (v = 0 ∧ ¬ aptP T o st.1 x))) ∧ Fr inGt noT h h') := by
  have Gp := gpC T
  obtain ⟨hx1, hx2⟩ := ho x
  have hx0 := hx1.1
  have hcnt := T.1.2.2.2.2.2.1
  have hxl := x.isLt
  have vin : ∀ {h' : mj_H}, isLay h' → vp_in (jI x.val) (hN h' 61) := by
    intro h' L'
    rw [show hN h' 61 = 4096 from L'.N 60 rfl]
    exact jI_in (by omega) (by omega) (by omega)
  have nat : (jI (x.val : Int)).toNatClampNeg = x.val := by rw [jI_nat (by omega) (by omega), Int.toNat_natCast]
  -- what is known when primes below q are gone
  let Inv : Nat → Int → Nat → Prop := fun l a q => 0 < l ∧ l ∣ o x ∧ (∀ p, Pr p → p ∣ l → q ≤ p) ∧ ((a = 1 ∧ 1 < o x ∧ ∀ p, Pr p → p ∣ o x → ¬ p ∣ l → ¬ pw (mulC T) (oneC T) x (o x / p) ∈ st.1) ∨ (a = 0 ∧ ¬ aptP T o st.1 x))
  refine mj_Ct_of mj_ok tb_87 rfl rfl (Nat.le_of_ble_eq_true rfl) (fun Run hR => ?_)
  have r89 : ∀ (l : Nat) (a : Int) (q : Nat) (h' : mj_H) (x2 x4 : Option Value), Inv l a q → (l = 1 ∨ a = 0) → Fr inGt noT h h' → Run 89 [some (.ref 52), some (.int (jI x.val)), x2, some (.int (jI a)), x4] [] h' (0, 0) := by
    rintro l a q h' x2 x4 ⟨i1, i2, i3, i4⟩ hl F
    refine hR 60 52 _ _ _ _ _ _ rfl ?_
    rcases i4 with ⟨e, k1, k2⟩ | ⟨e, k1⟩
    · subst e
      refine ⟨Or.inr rfl, ⟨1, rfl, Or.inl ⟨rfl, k1, fun p hp hd => k2 p hp hd (fun hl1 => ?_)⟩⟩, F⟩
      rcases hl with z | z
      · rw [z] at hl1
        have := Nat.le_of_dvd (by decide) hl1
        have := hp.1
        omega
      · omega
    · subst e
      exact ⟨Or.inl rfl, ⟨0, rfl, Or.inr ⟨rfl, k1⟩⟩, F⟩
  have r21 : ∀ (m l q : Nat) (a : Int) (lI qI aI : Int32) (h' : mj_H), o x + 2 ≤ q + m → Inv l a q → 2 ≤ q → q ≤ 5000 → Fr inGt noT h h' → lI = jI l → aI = jI a → qI = jI q → Run 21 [some (.ref 52), some (.int (jI x.val)), some (.int lI), some (.int aI), some (.int qI)] [] h' (0, 0) := by
    intro m
    induction m with
    | zero =>
      rintro l q a lI qI aI h' hm hi hq2 hq3 F rfl rfl rfl
      have hi' := hi
      obtain ⟨i1, i2, i3, i4⟩ := hi'
      have hle := Nat.le_of_dvd hx0 i2
      refine hR 60 14 _ _ _ _ _ _ rfl ?_
      refine ⟨fun c => ?_, fun c => ?_⟩
      · simp (disch := omega) only [mj_lcm, jI_lt, jI_le, jI_eq, jL_lt, jL_le, jL_eq, jI_lt0, jI_0le, jI_0lt, jI_le0, jI_eq0, jL_eq0, jI_L, jI_add, jI_sub, jI_mul, jI_neg, jL_add, jL_sub, jL_mul, jL_neg, jL_I, jI_div, jI_mod, jL_div, jL_mod] at c
        exact r89 l a q h' _ _ hi (Or.inl (by omega)) F
      · exfalso
        simp (disch := omega) only [mj_lcm, jI_lt, jI_le, jI_eq, jL_lt, jL_le, jL_eq, jI_lt0, jI_0le, jI_0lt, jI_le0, jI_eq0, jL_eq0, jI_L, jI_add, jI_sub, jI_mul, jI_neg, jL_add, jL_sub, jL_mul, jL_neg, jL_I, jI_div, jI_mod, jL_div, jL_mod] at c
        obtain ⟨p, p1, p2⟩ := ex_pr l l (Nat.le_refl _) (by omega)
        have := i3 p p1 p2
        have := Nat.le_of_dvd i1 p2
        omega
    | succ m ih =>
      rintro l q a lI qI aI h' hm hi hq2 hq3 F rfl rfl rfl
      have hi' := hi
      obtain ⟨i1, i2, i3, i4⟩ := hi'
      have hle := Nat.le_of_dvd hx0 i2
      have L0 := L.F F (fun _ z => z.elim)
      have hT0 := hT.F F (by omega)
      have hG0 := hG.F F (by omega) (by omega)
      have hs0 := hs.F F (by omega)
      have ha01 : a = 0 ∨ a = 1 := by
        rcases i4 with z | z
        · exact Or.inr z.1
        · exact Or.inl z.1
      -- on to the next q
      have r83 : ∀ (l' : Nat) (a' : Int) (h2 : mj_H), Inv l' a' q → ¬ q ∣ l' → Fr inGt noT h h2 → q < 5000 → Run 83 [some (.ref 52), some (.int (jI x.val)), some (.int (jI l')), some (.int (jI a')), some (.int (jI q))] [] h2 (0, 0) := by
        rintro l' a' h2 ⟨j1, j2, j3, j4⟩ hnd F2 hq5
        refine hR 60 50 _ _ _ _ _ _ rfl ?_
        refine ih l' (q + 1) a' _ _ _ h2 (by omega) ⟨j1, j2, fun p hp hd => ?_, j4⟩ (by omega) (by omega) F2 rfl rfl (jI_add _ _)
        have := j3 p hp hd
        rcases Nat.lt_or_ge q p with z | z
        · exact z
        · exfalso
          have : p = q := by omega
          subst this
          exact hnd hd
      have r68 : ∀ (t l' : Nat) (a' : Int) (lI : Int32) (h2 : mj_H), l' ≤ t → Inv l' a' q → Fr inGt noT h h2 → q < 5000 → Pr q → (a' = 1 → ¬ pw (mulC T) (oneC T) x (o x / q) ∈ st.1) → lI = jI l' → Run 68 [some (.ref 52), some (.int (jI x.val)), some (.int lI), some (.int (jI a')), some (.int (jI q))] [] h2 (0, 0) := by
        intro t
        induction t with
        | zero => rintro l' a' lI h2 ht ⟨j1, -⟩; omega
        | succ t iht =>
          rintro l' a' lI h2 ht hj F2 hq5 hqp hqn rfl
          have hj' := hj
          obtain ⟨j1, j2, j3, j4⟩ := hj'
          have hle2 := Nat.le_of_dvd hx0 j2
          have em : jI (l' : Int) % jI (q : Int) = jI ((l' % q : Nat) : Int) := by
            rw [jI_mod (by omega) (by omega) (by omega) (by omega)]
            rfl
          have hml := Nat.mod_lt l' (show 0 < q by omega)
          refine hR 60 41 _ _ _ _ _ _ rfl ?_
          refine ⟨?_, ?_⟩
          · simp (disch := omega) only [mj_lcm, jI_lt, jI_le, jI_eq, jL_lt, jL_le, jL_eq, jI_lt0, jI_0le, jI_0lt, jI_le0, jI_eq0, jL_eq0, jI_L, jI_add, jI_sub, jI_mul, jI_neg, jL_add, jL_sub, jL_mul, jL_neg, jL_I, jI_div, jI_mod, jL_div, jL_mod]
            omega
          · rw [em]
            refine ⟨fun c => ⟨?_, ?_⟩, fun c => ?_⟩
            · simp (disch := omega) only [mj_lcm, jI_lt, jI_le, jI_eq, jL_lt, jL_le, jL_eq, jI_lt0, jI_0le, jI_0lt, jI_le0, jI_eq0, jL_eq0, jI_L, jI_add, jI_sub, jI_mul, jI_neg, jL_add, jL_sub, jL_mul, jL_neg, jL_I, jI_div, jI_mod, jL_div, jL_mod]
              omega
            · simp (disch := omega) only [mj_lcm, jI_lt, jI_le, jI_eq, jL_lt, jL_le, jL_eq, jI_lt0, jI_0le, jI_0lt, jI_le0, jI_eq0, jL_eq0, jI_L, jI_add, jI_sub, jI_mul, jI_neg, jL_add, jL_sub, jL_mul, jL_neg, jL_I, jI_div, jI_mod, jL_div, jL_mod] at c
              have ed : jI (l' : Int) / jI (q : Int) = jI ((l' / q : Nat) : Int) := by
                rw [jI_div (by omega) (by omega) (by omega) (by omega)]
                rfl
              have hdv : q ∣ l' := Nat.dvd_of_mod_eq_zero (by omega)
              obtain ⟨r, hr⟩ := hdv
              have er : l' / q = r := by
                rw [hr]
                exact Nat.mul_div_cancel_left _ (by omega)
              have hr0 : 0 < r := by
                rcases Nat.eq_zero_or_pos r with z | z
                · rw [z, Nat.mul_zero] at hr
                  omega
                · exact z
              have hrl : r ∣ l' := ⟨q, by rw [hr, Nat.mul_comm]⟩
              have hlt : 2 * r ≤ q * r := Nat.mul_le_mul_right _ hq2
              rw [er] at ed
              refine iht r a' _ h2 (by omega) ⟨hr0, Nat.dvd_trans hrl j2, fun p hp hd => j3 p hp (Nat.dvd_trans hd hrl), ?_⟩ F2 hq5 hqp hqn ed
              rcases j4 with ⟨e, k1, k2⟩ | z
              · refine Or.inl ⟨e, k1, fun p hp hd hnr => ?_⟩
                by_cases hpl : p ∣ l'
                · rw [hr] at hpl
                  rcases pr_mul hp hpl with y | y
                  · rcases hqp.2 p y with y | y
                    · have := hp.1
                      omega
                    · rw [y]
                      exact hqn e
                  · exact absurd y hnr
                · exact k2 p hp hd hpl
              · exact Or.inr z
            · simp (disch := omega) only [mj_lcm, jI_lt, jI_le, jI_eq, jL_lt, jL_le, jL_eq, jI_lt0, jI_0le, jI_0lt, jI_le0, jI_eq0, jL_eq0, jI_L, jI_add, jI_sub, jI_mul, jI_neg, jL_add, jL_sub, jL_mul, jL_neg, jL_I, jI_div, jI_mod, jL_div, jL_mod] at c
              refine r83 l' a' h2 hj (fun hd => ?_) F2 hq5
              have := Nat.mod_eq_zero_of_dvd hd
              omega
      refine hR 60 14 _ _ _ _ _ _ rfl ?_
      refine ⟨fun c => ?_, fun c => ⟨fun c2 => ?_, fun c2 => ?_⟩⟩
      · simp (disch := omega) only [mj_lcm, jI_lt, jI_le, jI_eq, jL_lt, jL_le, jL_eq, jI_lt0, jI_0le, jI_0lt, jI_le0, jI_eq0, jL_eq0, jI_L, jI_add, jI_sub, jI_mul, jI_neg, jL_add, jL_sub, jL_mul, jL_neg, jL_I, jI_div, jI_mod, jL_div, jL_mod] at c
        exact r89 l a q h' _ _ hi (Or.inl (by omega)) F
      · simp (disch := omega) only [mj_lcm, jI_lt, jI_le, jI_eq, jL_lt, jL_le, jL_eq, jI_lt0, jI_0le, jI_0lt, jI_le0, jI_eq0, jL_eq0, jI_L, jI_add, jI_sub, jI_mul, jI_neg, jL_add, jL_sub, jL_mul, jL_neg, jL_I, jI_div, jI_mod, jL_div, jL_mod] at c2
        exact r89 l a q h' _ _ hi (Or.inr c2) F
      · simp (disch := omega) only [mj_lcm, jI_lt, jI_le, jI_eq, jL_lt, jL_le, jL_eq, jI_lt0, jI_0le, jI_0lt, jI_le0, jI_eq0, jL_eq0, jI_L, jI_add, jI_sub, jI_mul, jI_neg, jL_add, jL_sub, jL_mul, jL_neg, jL_I, jI_div, jI_mod, jL_div, jL_mod] at c c2
        have hql : q ≤ l := by
          obtain ⟨p, p1, p2⟩ := ex_pr l l (Nat.le_refl _) (by omega)
          have := i3 p p1 p2
          have := Nat.le_of_dvd i1 p2
          omega
        have em : jI (l : Int) % jI (q : Int) = jI ((l % q : Nat) : Int) := by
          rw [jI_mod (by omega) (by omega) (by omega) (by omega)]
          rfl
        have hml := Nat.mod_lt l (show 0 < q by omega)
        refine ⟨?_, ?_⟩
        · simp (disch := omega) only [mj_lcm, jI_lt, jI_le, jI_eq, jL_lt, jL_le, jL_eq, jI_lt0, jI_0le, jI_0lt, jI_le0, jI_eq0, jL_eq0, jI_L, jI_add, jI_sub, jI_mul, jI_neg, jL_add, jL_sub, jL_mul, jL_neg, jL_I, jI_div, jI_mod, jL_div, jL_mod]
          omega
        · rw [em]
          refine ⟨fun c3 => ?_, fun c3 => ?_⟩
          · simp (disch := omega) only [mj_lcm, jI_lt, jI_le, jI_eq, jL_lt, jL_le, jL_eq, jI_lt0, jI_0le, jI_0lt, jI_le0, jI_eq0, jL_eq0, jI_L, jI_add, jI_sub, jI_mul, jI_neg, jL_add, jL_sub, jL_mul, jL_neg, jL_I, jI_div, jI_mod, jL_div, jL_mod] at c3
            have hqd : q ∣ l := Nat.dvd_of_mod_eq_zero (by omega)
            have hqo : q ∣ o x := Nat.dvd_trans hqd i2
            have hqp : Pr q := by
              refine ⟨hq2, fun m' hm' => ?_⟩
              have m0 : m' ≠ 0 := fun z => by
                rw [z] at hm'
                have := Nat.eq_zero_of_zero_dvd hm'
                omega
              rcases Nat.lt_or_ge m' 2 with z | z
              · exact Or.inl (by omega)
              · obtain ⟨p, p1, p2⟩ := ex_pr m' m' (Nat.le_refl _) z
                have h1 := i3 p p1 (Nat.dvd_trans p2 (Nat.dvd_trans hm' hqd))
                have h2 := Nat.le_of_dvd (by omega) p2
                have h3 := Nat.le_of_dvd (by omega) hm'
                exact Or.inr (by omega)
            have hoq : o x / q < o x := Nat.div_lt_self hx0 (by omega)
            have edv : jI (o x : Int) / jI (q : Int) = jI ((o x / q : Nat) : Int) := by
              rw [jI_div (by omega) (by omega) (by omega) (by omega)]
              rfl
            obtain ⟨dq, hdq⟩ : ∃ dq, dq = o x / q := ⟨_, rfl⟩
            rw [← hdq] at hoq edv
            have c88 := ct_88 G L0 T hT0 hG0 ho x (t := (dq : Int)) (by omega)
            have emod : ((dq : Int) % (o x : Int)).toNat = dq := by
              rw [Int.emod_eq_of_lt (by omega) (by omega)]
              omega
            rw [emod, ← edv, ← hG0.2 x] at c88
            generalize hy : pw (mulC T) (oneC T) x dq = y at c88
            rw [hdq] at hy
            have hyl := y.isLt
            refine hR 60 24 _ _ _ _ _ _ rfl ?_
            refine ⟨L0.K 52 rfl, _, L0.R 52 11 _ rfl, L0.K 52 rfl, _, L0.R 52 6 _ rfl, L0.K 61 rfl, vin L0, ?_⟩
            rw [nat]
            refine ⟨?_, L0.K 52 rfl, jcallP c88 ?_⟩
            · simp (disch := omega) only [mj_lcm, jI_lt, jI_le, jI_eq, jL_lt, jL_le, jL_eq, jI_lt0, jI_0le, jI_0lt, jI_le0, jI_eq0, jL_eq0, jI_L, jI_add, jI_sub, jI_mul, jI_neg, jL_add, jL_sub, jL_mul, jL_neg, jL_I, jI_div, jI_mod, jL_div, jL_mod]
              omega
            · rintro oo h3 ⟨rfl, F3⟩
              have L3 := L0.F F3 (fun _ z => z.elim)
              have hs3 := hs0.F F3 (by omega)
              refine ⟨L3.K 64 rfl, ?_, ?_⟩
              · rw [show hN h3 64 = 4096 from L3.N 63 rfl]
                exact jI_in (by omega) (by omega) (by omega)
              · rw [jI_nat (by omega) (by omega), Int.toNat_natCast, hs3.2.2.2.2.1 y]
                by_cases hin : y ∈ st.1
                · rw [if_pos hin]
                  refine ⟨fun c4 => absurd c4 (by decide), fun c4 => ?_⟩
                  refine r68 l l 0 _ h3 (Nat.le_refl _) ⟨i1, i2, i3, Or.inr ⟨rfl, fun z => ?_⟩⟩ (F.trans F3) (by omega) hqp (fun z => by omega) rfl
                  exact z.2 q hqp hqo (by rw [hy]; exact hin)
                · rw [if_neg hin]
                  refine ⟨fun c4 => ?_, fun c4 => absurd rfl c4⟩
                  have ha1 : a = 1 := by omega
                  subst ha1
                  exact r68 l l 1 _ h3 (Nat.le_refl _) hi (F.trans F3) (by omega) hqp (fun _ => by rw [hy]; exact hin) rfl
          · simp (disch := omega) only [mj_lcm, jI_lt, jI_le, jI_eq, jL_lt, jL_le, jL_eq, jI_lt0, jI_0le, jI_0lt, jI_le0, jI_eq0, jL_eq0, jI_L, jI_add, jI_sub, jI_mul, jI_neg, jL_add, jL_sub, jL_mul, jL_neg, jL_I, jI_div, jI_mod, jL_div, jL_mod] at c3
            refine r83 l a h' hi (fun hd => ?_) F (by omega)
            have := Nat.mod_eq_zero_of_dvd hd
            omega
  have r17 : ∀ (a : Int) (aI : Int32) (x3 x4 : Option Value), ((a = 1 ∧ 1 < o x) ∨ (a = 0 ∧ ¬ 1 < o x)) → aI = jI a → Run 17 [some (.ref 52), some (.int (jI x.val)), some (.int (jI (o x))), x3, x4] [.int aI] h (0, 0) := by
    rintro a aI x3 x4 ha rfl
    refine hR 60 11 _ _ _ _ _ _ rfl ?_
    refine r21 (o x) (o x) 2 a _ _ _ h (by omega) ⟨hx0, Nat.dvd_refl _, fun p hp _ => hp.1, ?_⟩ (by decide) (by decide) (Fr.refl _ _ _) rfl rfl rfl
    rcases ha with ⟨e, z⟩ | ⟨e, z⟩
    · exact Or.inl ⟨e, z, fun p hp hd hnd => absurd hd hnd⟩
    · exact Or.inr ⟨e, fun y => z y.1⟩
  refine hR 60 0 _ _ _ _ _ _ rfl ?_
  refine ⟨L.K 52 rfl, _, L.R 52 6 _ rfl, L.K 61 rfl, vin L, ?_⟩
  rw [nat, hG.2 x]
  refine ⟨fun c => ?_, fun c => ?_⟩
  · simp (disch := omega) only [mj_lcm, jI_lt, jI_le, jI_eq, jL_lt, jL_le, jL_eq, jI_lt0, jI_0le, jI_0lt, jI_le0, jI_eq0, jL_eq0, jI_L, jI_add, jI_sub, jI_mul, jI_neg, jL_add, jL_sub, jL_mul, jL_neg, jL_I, jI_div, jI_mod, jL_div, jL_mod] at c
    exact r17 0 _ _ _ (Or.inr ⟨rfl, by omega⟩) rfl
  · simp (disch := omega) only [mj_lcm, jI_lt, jI_le, jI_eq, jL_lt, jL_le, jL_eq, jI_lt0, jI_0le, jI_0lt, jI_le0, jI_eq0, jL_eq0, jI_L, jI_add, jI_sub, jI_mul, jI_neg, jL_add, jL_sub, jL_mul, jL_neg, jL_I, jI_div, jI_mod, jL_div, jL_mod] at c
    exact r17 1 _ _ _ (Or.inl ⟨rfl, by omega⟩) rfl
end
