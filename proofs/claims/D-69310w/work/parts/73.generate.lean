/-! contracts: generators are found; the group is settled -/
section
variable {d w : Int} {n : Nat} {A : Nat → pI} {nxt : Nat → Nat} {cls : Nat → Int} {cnt : Nat} {nm : Nat → Nat}
/-- the first class of greatest order that lies apart, among those below k -/
noncomputable def bstS (T : isTF d w n A nxt cls cnt nm) (o : Fin cnt → Nat) (mem : List (Fin cnt)) : Nat → Option (Fin cnt)
  | 0 => none
  | k + 1 => if h : k < cnt then @ite _ ((∀ b, bstS T o mem k = some b → o b < o ⟨k, h⟩) ∧ aptP T o mem ⟨k, h⟩) (Classical.propDecidable _) (some ⟨k, h⟩) (bstS T o mem k) else bstS T o mem k
theorem bstS_yes (T : isTF d w n A nxt cls cnt nm) (o : Fin cnt → Nat) (mem : List (Fin cnt)) {k : Nat} (h : k < cnt) (h1 : (∀ b, bstS T o mem k = some b → o b < o ⟨k, h⟩) ∧ aptP T o mem ⟨k, h⟩) : bstS T o mem (k + 1) = some ⟨k, h⟩ := by
  show (if h : k < cnt then _ else _) = _
  rw [dif_pos h, if_pos h1]
theorem bstS_no (T : isTF d w n A nxt cls cnt nm) (o : Fin cnt → Nat) (mem : List (Fin cnt)) {k : Nat} (h : k < cnt) (h1 : ¬ ((∀ b, bstS T o mem k = some b → o b < o ⟨k, h⟩) ∧ aptP T o mem ⟨k, h⟩)) : bstS T o mem (k + 1) = bstS T o mem k := by
  show (if h : k < cnt then _ else _) = _
  rw [dif_pos h, if_neg h1]
noncomputable def gnS (T : isTF d w n A nxt cls cnt nm) (o : Fin cnt → Nat) : Nat → gS cnt → gS cnt
  | 0, st => st
  | f + 1, st => if st.1.length < cnt then (match bstS T o st.1 cnt with | some g => gnS T o f (jnS T o st g) | none => st) else st
def gnOK (T : isTF d w n A nxt cls cnt nm) (o : Fin cnt → Nat) : Nat → gS cnt → Prop
  | 0, st => st.1.length = cnt
  | f + 1, st => st.1.length = cnt ∨ (st.1.length < cnt ∧ ∃ g, bstS T o st.1 cnt = some g ∧ st.2.2.length < 8 ∧ st.1.length * o g ≤ 4096 ∧ gnOK T o f (jnS T o st g))
noncomputable def st0 (T : isTF d w n A nxt cls cnt nm) : gS cnt := ([oneC T], fun _ _ => 0, [])
def bI (b : Option (Fin cnt)) : Int := match b with
  | some g => g.val
  | none => -1
/-- FormHouse$Group.generate()V; cuts at [10, 21, 23, 52, 59, 61, 88, 102, 106, 136, 146, 152] -/
def cl_86_3 : List mj_E := (128, false, .getfield 24, 3, 8, 6, 2, 0, 0) ::
  (131, false, .iload_n 1, 1, 0, 0, 0, 0, 0) ::
  (132, false, .saload, 1, 0, 0, 0, 0, 0) ::
  (133, false, .if_icmp .le 13, 3, 82, 0, 0, 0, 0) ::
  (136, true, .aload_n 0, 1, 0, 0, 0, 0, 0) ::
  (137, false, .iload_n 2, 1, 0, 0, 0, 0, 0) ::
  (138, false, .invokevirtual 126, 3, 87, 1, 8, 0, 0) ::
  (141, false, .ifCond .eq 5, 3, 82, 0, 0, 0, 0) ::
  (144, false, .iload_n 2, 1, 0, 0, 0, 0, 0) ::
  (145, false, .istore_n 1, 1, 0, 0, 0, 0, 0) ::
  (146, true, .iinc 2 1, 3, 0, 0, 0, jI 1, 0) ::
  (149, false, .goto (-43), 3, 60, 0, 0, 0, 0) ::
  (152, true, .aload_n 0, 1, 0, 0, 0, 0, 0) ::
  (153, false, .iload_n 1, 1, 0, 0, 0, 0, 0) ::
  (154, false, .invokevirtual 130, 3, 90, 1, 8, 0, 0) ::
  (157, false, .goto (-69), 3, 50, 0, 0, 0, 0) ::
  (160, false, .return_, 1, 0, 0, 0, 0, 0) ::
  []
def cl_86_2 : List mj_E := (82, false, .iinc 1 1, 3, 0, 0, 0, jI 1, 0) ::
  (85, false, .goto (-24), 3, 35, 0, 0, 0, 0) ::
  (88, true, .aload_n 0, 1, 0, 0, 0, 0, 0) ::
  (89, false, .getfield 123, 3, 8, 9, 0, 0, 0) ::
  (92, false, .aload_n 0, 1, 0, 0, 0, 0, 0) ::
  (93, false, .getfield 46, 3, 8, 0, 2, 0, 0) ::
  (96, false, .getfield 107, 3, 7, 5, 0, 0, 0) ::
  (99, false, .if_icmp .ge 61, 3, 88, 0, 0, 0, 0) ::
  (102, true, .iconst (-1), 1, 0, 0, 0, jI (-1), 0) ::
  (103, false, .istore_n 1, 1, 0, 0, 0, 0, 0) ::
  (104, false, .iconst 0, 1, 0, 0, 0, jI 0, 0) ::
  (105, false, .istore_n 2, 1, 0, 0, 0, 0, 0) ::
  (106, true, .iload_n 2, 1, 0, 0, 0, 0, 0) ::
  (107, false, .aload_n 0, 1, 0, 0, 0, 0, 0) ::
  (108, false, .getfield 46, 3, 8, 0, 2, 0, 0) ::
  (111, false, .getfield 107, 3, 7, 5, 0, 0, 0) ::
  (114, false, .if_icmp .ge 38, 3, 84, 0, 0, 0, 0) ::
  (117, false, .iload_n 1, 1, 0, 0, 0, 0, 0) ::
  (118, false, .ifCond .lt 18, 3, 76, 0, 0, 0, 0) ::
  (121, false, .aload_n 0, 1, 0, 0, 0, 0, 0) ::
  (122, false, .getfield 24, 3, 8, 6, 2, 0, 0) ::
  (125, false, .iload_n 2, 1, 0, 0, 0, 0, 0) ::
  (126, false, .saload, 1, 0, 0, 0, 0, 0) ::
  (127, false, .aload_n 0, 1, 0, 0, 0, 0, 0) ::
  cl_86_3
def cl_86_1 : List mj_E := (40, false, .aload_n 0, 1, 0, 0, 0, 0, 0) ::
  (41, false, .getfield 84, 3, 8, 5, 0, 0, 0) ::
  (44, false, .if_icmp .ne 7, 3, 29, 0, 0, 0, 0) ::
  (47, false, .iconst 1, 1, 0, 0, 0, jI 1, 0) ::
  (48, false, .goto 4, 3, 30, 0, 0, 0, 0) ::
  (51, false, .iconst 0, 1, 0, 0, 0, jI 0, 0) ::
  (52, true, .bastore, 1, 0, 0, 0, 0, 0) ::
  (53, false, .iinc 1 1, 3, 0, 0, 0, jI 1, 0) ::
  (56, false, .goto (-33), 3, 15, 0, 0, 0, 0) ::
  (59, true, .iconst 0, 1, 0, 0, 0, jI 0, 0) ::
  (60, false, .istore_n 1, 1, 0, 0, 0, 0, 0) ::
  (61, true, .iload_n 1, 1, 0, 0, 0, 0, 0) ::
  (62, false, .bipush 8, 2, 0, 0, 0, jI 8, 0) ::
  (64, false, .if_icmp .ge 24, 3, 50, 0, 0, 0, 0) ::
  (67, false, .aload_n 0, 1, 0, 0, 0, 0, 0) ::
  (68, false, .getfield 40, 3, 8, 12, 2, 0, 0) ::
  (71, false, .bipush 8, 2, 0, 0, 0, jI 8, 0) ::
  (73, false, .aload_n 0, 1, 0, 0, 0, 0, 0) ::
  (74, false, .getfield 84, 3, 8, 5, 0, 0, 0) ::
  (77, false, .imul, 1, 0, 0, 0, 0, 0) ::
  (78, false, .iload_n 1, 1, 0, 0, 0, 0, 0) ::
  (79, false, .iadd, 1, 0, 0, 0, 0, 0) ::
  (80, false, .iconst 0, 1, 0, 0, 0, jI 0, 0) ::
  (81, false, .sastore, 1, 0, 0, 0, 0, 0) ::
  cl_86_2
def cl_86_0 : List mj_E := (0, false, .aload_n 0, 1, 0, 0, 0, 0, 0) ::
  (1, false, .iconst 0, 1, 0, 0, 0, jI 0, 0) ::
  (2, false, .putfield 120, 3, 8, 7, 0, 0, 0) ::
  (5, false, .aload_n 0, 1, 0, 0, 0, 0, 0) ::
  (6, false, .iconst 1, 1, 0, 0, 0, jI 1, 0) ::
  (7, false, .putfield 123, 3, 8, 9, 0, 0, 0) ::
  (10, true, .aload_n 0, 1, 0, 0, 0, 0, 0) ::
  (11, false, .getfield 32, 3, 8, 10, 2, 0, 0) ::
  (14, false, .iconst 0, 1, 0, 0, 0, jI 0, 0) ::
  (15, false, .aload_n 0, 1, 0, 0, 0, 0, 0) ::
  (16, false, .getfield 84, 3, 8, 5, 0, 0, 0) ::
  (19, false, .i2s, 1, 0, 0, 0, 0, 0) ::
  (20, false, .sastore, 1, 0, 0, 0, 0, 0) ::
  (21, true, .iconst 0, 1, 0, 0, 0, jI 0, 0) ::
  (22, false, .istore_n 1, 1, 0, 0, 0, 0, 0) ::
  (23, true, .iload_n 1, 1, 0, 0, 0, 0, 0) ::
  (24, false, .aload_n 0, 1, 0, 0, 0, 0, 0) ::
  (25, false, .getfield 46, 3, 8, 0, 2, 0, 0) ::
  (28, false, .getfield 107, 3, 7, 5, 0, 0, 0) ::
  (31, false, .if_icmp .ge 28, 3, 33, 0, 0, 0, 0) ::
  (34, false, .aload_n 0, 1, 0, 0, 0, 0, 0) ::
  (35, false, .getfield 35, 3, 8, 11, 2, 0, 0) ::
  (38, false, .iload_n 1, 1, 0, 0, 0, 0, 0) ::
  (39, false, .iload_n 1, 1, 0, 0, 0, 0, 0) ::
  cl_86_1
def cd_86 : List mj_E := cl_86_0
def cx_86 : mj_X := (0, [], [])
theorem tb_86 : mj_tab (mj_mt 86) cx_86 cd_86 mj_mh [(0, 0, 0), (0, 0, 0), (2083, 0, 0), (0, 0, 0), (0, 0, 0), (2087, 0, 0), (0, 0, 0), (2088, 0, 0), (0, 0, 0), (0, 0, 0), (2079, 0, 0), (0, 0, 0), (0, 0, 0), (0, 0, 0), (0, 0, 0), (0, 0, 0), (0, 0, 0), (2074, 0, 0), (2000, 0, 0), (0, 0, 0), (0, 0, 0), (2089, 0, 0), (0, 0, 0), (0, 0, 0), (0, 0, 0), (2079, 0, 0), (0, 0, 0), (0, 0, 0), (0, 0, 0), (0, 0, 0), (0, 0, 0), (0, 0, 0), (0, 0, 0), (0, 0, 0), (0, 0, 0), (0, 0, 0), (0, 0, 0), (0, 0, 0), (0, 0, 0), (2090, 0, 0), (0, 0, 0), (0, 0, 0), (2079, 0, 0), (0, 0, 0), (0, 0, 0), (0, 0, 0), (0, 0, 0), (0, 0, 0), (0, 0, 0), (0, 0, 0), (0, 0, 0), (2087, 0, 0), (0, 0, 0), (2074, 0, 0), (2000, 0, 0), (0, 0, 0), (0, 0, 0), (0, 0, 0), (0, 0, 0), (0, 0, 0), (0, 0, 0), (0, 0, 0), (2074, 0, 0), (2000, 0, 0), (0, 0, 0), (0, 0, 0), (0, 0, 0), (0, 0, 0), (2081, 0, 0), (0, 0, 0), (0, 0, 0), (0, 0, 0), (2081, 0, 0), (0, 0, 0), (0, 0, 0), (0, 0, 0), (0, 0, 0), (0, 0, 0), (4154, 0, 0), (0, 0, 0), (0, 0, 0), (0, 0, 0), (0, 0, 0), (0, 0, 0), (0, 0, 0), (0, 0, 0), (4166, 0, 0), (0, 0, 0), (0, 0, 0)] = true := mj_tab_f (by decide +kernel)
theorem ct_86 (G : mj_G) {h : mj_H} (L : isLay h) (T : isTF d w n A nxt cls cnt nm) (hT : isTB h d w n A cls cnt nm) {o : Fin cnt → Nat} (hG : isGr T o h) (ho : ∀ x, isOrd (mulC T) (oneC T) x (o x) ∧ o x ≤ 4096) {f : Nat} (hok : gnOK T o f (st0 T)) : mj_Ct G (mj_mt 86) 0 0 [.ref 52] h (fun oc h' => oc = .returned none ∧ isGs (gnS T o f (st0 T)) h' ∧ isGr T o h' ∧ Fr inGj noT h h') := by
  have hcnt := T.1.2.2.2.2.2.1
  have h1l := (oneC T).isLt
  refine mj_Ct_of mj_ok tb_86 rfl rfl (Nat.le_of_ble_eq_true rfl) (fun Run hR => ?_)
  have ecc : ∀ {h' : mj_H}, Fr inGj noT h h' → hI h' 46 5 = jI cnt := fun F => (F.I (by omega) _).trans hT.2.1.1
  -- the search and the joins
  have main : ∀ (f' : Nat) (st : gS cnt) (h' : mj_H) (x1 x2 : Option Value), gnOK T o f' st → isGs st h' → isGr T o h' → Fr inGj noT h h' → gnS T o f' st = gnS T o f (st0 T) → Run 88 [some (.ref 52), x1, x2] [] h' (0, 0) := by
    have stop : ∀ (st : gS cnt) (h' : mj_H) (x1 x2 : Option Value), st.1.length = cnt → isGs st h' → isGr T o h' → Fr inGj noT h h' → st = gnS T o f (st0 T) → Run 88 [some (.ref 52), x1, x2] [] h' (0, 0) := by
      rintro st h' x1 x2 hl hs hG' F e
      have L0 := L.F F (fun _ z => z.elim)
      refine hR 60 50 _ _ _ _ _ _ rfl ?_
      refine ⟨L0.K 52 rfl, L0.K 52 rfl, _, L0.R 52 0 _ rfl, L0.K 46 rfl, ?_⟩
      rw [hs.2.1, ecc F]
      refine ⟨fun c => ?_, fun c => ?_⟩
      · rw [e] at hs
        exact ⟨rfl, hs, hG', F⟩
      · simp (disch := omega) only [mj_lcm, jI_lt, jI_le, jI_eq, jL_lt, jL_le, jL_eq, jI_lt0, jI_0le, jI_0lt, jI_le0, jI_eq0, jL_eq0, jI_L, jI_add, jI_sub, jI_mul, jI_neg, jL_add, jL_sub, jL_mul, jL_neg, jL_I, jI_div, jI_mod, jL_div, jL_mod] at c
        omega
    intro f'
    induction f' with
    | zero =>
      intro st h' x1 x2 hk hs hG' F e
      exact stop st h' x1 x2 hk hs hG' F e
    | succ f' ih =>
      intro st h' x1 x2 hk hs hG' F e
      rcases hk with hl | ⟨hl, g, g1, g2, g3, g4⟩
      · refine stop st h' x1 x2 hl hs hG' F ?_
        rw [← e]
        show st = if st.1.length < cnt then _ else st
        rw [if_neg (by omega)]
      · have e2 : gnS T o f' (jnS T o st g) = gnS T o f (st0 T) := by
          rw [← e]
          show _ = if st.1.length < cnt then (match bstS T o st.1 cnt with | some g => gnS T o f' (jnS T o st g) | none => st) else st
          rw [if_pos hl, g1]
        have L0 := L.F F (fun _ z => z.elim)
        have hT0 := hT.F F (by omega)
        have r152 : ∀ (bL : Int32) (h2 : mj_H) (x2 : Option Value), bL = jI (bI (some g)) → isGs st h2 → isGr T o h2 → Fr inGj noT h h2 → Run 152 [some (.ref 52), some (.int bL), x2] [] h2 (0, 0) := by
          rintro bL h2 x2 rfl hs2 hG2 F2
          have L2 := L.F F2 (fun _ z => z.elim)
          have hT2 := hT.F F2 (by omega)
          refine hR 60 84 _ _ _ _ _ _ rfl ?_
          refine ⟨L2.K 52 rfl, jcallP (ct_90 G L2 T hT2 hG2 ho hs2 g2 g3) ?_⟩
          rintro oo h3 ⟨rfl, hs3, hG3, F3⟩
          exact ih (jnS T o st g) h3 _ _ g4 hs3 hG3 (F2.trans F3) e2
        have r106 : ∀ (t k : Nat) (kI bL : Int32) (h2 : mj_H), k + t = cnt → isGs st h2 → isGr T o h2 → Fr inGj noT h h2 → kI = jI k → bL = jI (bI (bstS T o st.1 k)) → Run 106 [some (.ref 52), some (.int bL), some (.int kI)] [] h2 (0, 0) := by
          intro t
          induction t with
          | zero =>
            rintro k kI bL h2 ht hs2 hG2 F2 rfl rfl
            have hkc : k = cnt := by omega
            subst hkc
            have L2 := L.F F2 (fun _ z => z.elim)
            refine hR 60 60 _ _ _ _ _ _ rfl ?_
            refine ⟨L2.K 52 rfl, _, L2.R 52 0 _ rfl, L2.K 46 rfl, ?_⟩
            rw [ecc F2]
            refine ⟨fun c => ?_, fun c => ?_⟩
            · exact r152 _ h2 _ (by rw [g1]) hs2 hG2 F2
            · simp (disch := omega) only [mj_lcm, jI_lt, jI_le, jI_eq, jL_lt, jL_le, jL_eq, jI_lt0, jI_0le, jI_0lt, jI_le0, jI_eq0, jL_eq0, jI_L, jI_add, jI_sub, jI_mul, jI_neg, jL_add, jL_sub, jL_mul, jL_neg, jL_I, jI_div, jI_mod, jL_div, jL_mod] at c
              omega
          | succ t iht =>
            rintro k kI bL h2 ht hs2 hG2 F2 rfl rfl
            have hkc : k < cnt := by omega
            have L2 := L.F F2 (fun _ z => z.elim)
            have hT2 := hT.F F2 (by omega)
            have r146 : ∀ (bL : Int32) (h3 : mj_H), isGs st h3 → isGr T o h3 → Fr inGj noT h h3 → bL = jI (bI (bstS T o st.1 (k + 1))) → Run 146 [some (.ref 52), some (.int bL), some (.int (jI k))] [] h3 (0, 0) := by
              intro bL h3 hs3 hG3 F3 eb
              refine hR 60 82 _ _ _ _ _ _ rfl ?_
              exact iht (k + 1) _ _ h3 (by omega) hs3 hG3 F3 (jI_add _ _) eb
            have r136 : (∀ b, bstS T o st.1 k = some b → o b < o ⟨k, hkc⟩) → Run 136 [some (.ref 52), some (.int (jI (bI (bstS T o st.1 k)))), some (.int (jI k))] [] h2 (0, 0) := by
              intro hbig
              refine hR 60 76 _ _ _ _ _ _ rfl ?_
              refine ⟨L2.K 52 rfl, jcallP (ct_87 G L2 T hT2 hG2 ho hs2 ⟨k, hkc⟩) ?_⟩
              rintro oo h3 ⟨⟨v, rfl, hv⟩, F3⟩
              have hs3 := hs2.F F3 (by omega)
              have hG3 := hG2.F F3 (by omega) (by omega)
              have F23 : Fr inGj noT h h3 := F2.trans (F3.mono (by intro a z; omega) (fun _ z => z))
              rcases hv with ⟨rfl, hv⟩ | ⟨rfl, hv⟩
              · refine ⟨fun c => absurd c (by decide), fun c => ?_⟩
                exact r146 _ h3 hs3 hG3 F23 (by rw [bstS_yes T o st.1 hkc ⟨hbig, hv⟩]; rfl)
              · refine ⟨fun c => ?_, fun c => absurd rfl c⟩
                exact r146 _ h3 hs3 hG3 F23 (by rw [bstS_no T o st.1 hkc (fun z => hv z.2)])
            refine hR 60 60 _ _ _ _ _ _ rfl ?_
            refine ⟨L2.K 52 rfl, _, L2.R 52 0 _ rfl, L2.K 46 rfl, ?_⟩
            rw [ecc F2]
            refine ⟨fun c => ?_, fun c => ?_⟩
            · simp (disch := omega) only [mj_lcm, jI_lt, jI_le, jI_eq, jL_lt, jL_le, jL_eq, jI_lt0, jI_0le, jI_0lt, jI_le0, jI_eq0, jL_eq0, jI_L, jI_add, jI_sub, jI_mul, jI_neg, jL_add, jL_sub, jL_mul, jL_neg, jL_I, jI_div, jI_mod, jL_div, jL_mod] at c
              omega
            · cases hb : bstS T o st.1 k with
              | none =>
                rw [hb] at r136
                refine ⟨fun c2 => r136 (fun b z => by cases z), fun c2 => absurd (show jI (bI (none : Option (Fin cnt))) < 0 from (by show jI (-1) < 0; decide)) c2⟩
              | some b =>
                rw [hb] at r136
                have hbl := b.isLt
                have ho1 := (ho ⟨k, hkc⟩).2
                have ho2 := (ho b).2
                refine ⟨fun c2 => ?_, fun c2 => ?_⟩
                · exfalso
                  have c3 : jI (b.val : Int) < 0 := c2
                  simp (disch := omega) only [mj_lcm, jI_lt, jI_le, jI_eq, jL_lt, jL_le, jL_eq, jI_lt0, jI_0le, jI_0lt, jI_le0, jI_eq0, jL_eq0, jI_L, jI_add, jI_sub, jI_mul, jI_neg, jL_add, jL_sub, jL_mul, jL_neg, jL_I, jI_div, jI_mod, jL_div, jL_mod] at c3
                  omega
                · refine ⟨L2.K 52 rfl, _, L2.R 52 6 _ rfl, L2.K 61 rfl, ?_, L2.K 52 rfl, _, L2.R 52 6 _ rfl, L2.K 61 rfl, ?_, ?_⟩
                  · rw [show hN h2 61 = 4096 from L2.N 60 rfl]
                    exact jI_in (by omega) (by omega) (by omega)
                  · show vp_in (jI (b.val : Int)) (hN h2 61)
                    rw [show hN h2 61 = 4096 from L2.N 60 rfl]
                    exact jI_in (by omega) (by omega) (by omega)
                  · have v1 : hI h2 61 (jI (k : Int)).toNatClampNeg = jI (o ⟨k, hkc⟩) := by
                      rw [jI_nat (by omega) (by omega), Int.toNat_natCast]
                      exact hG2.2 ⟨k, hkc⟩
                    have v2 : hI h2 61 (jI (bI (some b))).toNatClampNeg = jI (o b) := by
                      show hI h2 61 (jI (b.val : Int)).toNatClampNeg = _
                      rw [jI_nat (by omega) (by omega), Int.toNat_natCast]
                      exact hG2.2 b
                    rw [v1, v2]
                    refine ⟨fun c3 => ?_, fun c3 => ?_⟩
                    · simp (disch := omega) only [mj_lcm, jI_lt, jI_le, jI_eq, jL_lt, jL_le, jL_eq, jI_lt0, jI_0le, jI_0lt, jI_le0, jI_eq0, jL_eq0, jI_L, jI_add, jI_sub, jI_mul, jI_neg, jL_add, jL_sub, jL_mul, jL_neg, jL_I, jI_div, jI_mod, jL_div, jL_mod] at c3
                      refine r146 _ h2 hs2 hG2 F2 ?_
                      rw [bstS_no T o st.1 hkc (fun z => by have := z.1 b hb; omega), hb]
                    · simp (disch := omega) only [mj_lcm, jI_lt, jI_le, jI_eq, jL_lt, jL_le, jL_eq, jI_lt0, jI_0le, jI_0lt, jI_le0, jI_eq0, jL_eq0, jI_L, jI_add, jI_sub, jI_mul, jI_neg, jL_add, jL_sub, jL_mul, jL_neg, jL_I, jI_div, jI_mod, jL_div, jL_mod] at c3
                      refine r136 (fun b' z => ?_)
                      cases z
                      omega
        refine hR 60 50 _ _ _ _ _ _ rfl ?_
        refine ⟨L0.K 52 rfl, L0.K 52 rfl, _, L0.R 52 0 _ rfl, L0.K 46 rfl, ?_⟩
        rw [hs.2.1, ecc F]
        refine ⟨fun c => ?_, fun c => ?_⟩
        · have := hs.2.2.1.1
          simp (disch := omega) only [mj_lcm, jI_lt, jI_le, jI_eq, jL_lt, jL_le, jL_eq, jI_lt0, jI_0le, jI_0lt, jI_le0, jI_eq0, jL_eq0, jI_L, jI_add, jI_sub, jI_mul, jI_neg, jL_add, jL_sub, jL_mul, jL_neg, jL_I, jI_div, jI_mod, jL_div, jL_mod] at c
          omega
        · refine hR 60 56 _ _ _ _ _ _ rfl ?_
          exact r106 cnt 0 _ _ h' (by omega) hs hG' F rfl rfl
  -- what there is at first
  let Q : mj_H → Prop := fun h' => hI h' 52 7 = jI 0 ∧ hI h' 52 9 = jI 1 ∧ hI h' 63 0 = jI (oneC T).val ∧ isGr T o h' ∧ Fr inGj noT h h'
  have r61 : ∀ (t i : Nat) (iI : Int32) (h' : mj_H) (x2 : Option Value), i + t = 8 → Q h' → (∀ y : Fin cnt, hI h' 64 y.val = jI (if y = oneC T then 1 else 0)) → (∀ j, j < i → hI h' 65 (8 * (oneC T).val + j) = jI 0) → iI = jI i → Run 61 [some (.ref 52), some (.int iI), x2] [] h' (0, 0) := by
    intro t
    induction t with
    | zero =>
      rintro i iI h' x2 ht ⟨q1, q2, q3, q4, q5⟩ h64 h65 rfl
      refine hR 60 35 _ _ _ _ _ _ rfl ?_
      refine ⟨fun c => ?_, fun c => ?_⟩
      · refine main f (st0 T) h' _ _ hok ⟨q1, q2, ⟨by show 1 ≤ 4096; decide, by show 0 ≤ 8; decide, hcnt⟩, ?_, ?_, ?_, ?_⟩ q4 q5 rfl
        · intro j y hy
          have hlt := lt_of_some hy
          have hj : j = 0 := by
            have : (st0 T).1.length = 1 := rfl
            omega
          subst hj
          have h9 : some (oneC T) = some y := hy
          rw [← Option.some.inj h9]
          exact q3
        · intro y
          rw [h64 y]
          have e4 : (y ∈ (st0 T).1) ↔ y = oneC T := List.mem_singleton
          simp only [e4]
        · intro y hy j hj
          have : y = oneC T := List.mem_singleton.1 hy
          subst this
          exact ⟨h65 j (by omega), by show 0 < 32768; decide⟩
        · intro j g hg
          have : (st0 T).2.2 = [] := rfl
          rw [this, List.getElem?_nil] at hg
          cases hg
      · simp (disch := omega) only [mj_lcm, jI_lt, jI_le, jI_eq, jL_lt, jL_le, jL_eq, jI_lt0, jI_0le, jI_0lt, jI_le0, jI_eq0, jL_eq0, jI_L, jI_add, jI_sub, jI_mul, jI_neg, jL_add, jL_sub, jL_mul, jL_neg, jL_I, jI_div, jI_mod, jL_div, jL_mod] at c
        omega
    | succ t ih =>
      rintro i iI h' x2 ht ⟨q1, q2, q3, q4, q5⟩ h64 h65 rfl
      have L0 := L.F q5 (fun _ z => z.elim)
      have ei : jI 8 * jI ((oneC T).val : Int) + jI (i : Int) = jI ((8 * (oneC T).val + i : Nat) : Int) := by
        rw [jI_mul, jI_add]
        congr 1
      refine hR 60 35 _ _ _ _ _ _ rfl ?_
      refine ⟨fun c => ?_, fun c => ?_⟩
      · simp (disch := omega) only [mj_lcm, jI_lt, jI_le, jI_eq, jL_lt, jL_le, jL_eq, jI_lt0, jI_0le, jI_0lt, jI_le0, jI_eq0, jL_eq0, jI_L, jI_add, jI_sub, jI_mul, jI_neg, jL_add, jL_sub, jL_mul, jL_neg, jL_I, jI_div, jI_mod, jL_div, jL_mod] at c
        omega
      · refine ⟨L0.K 52 rfl, _, L0.R 52 12 _ rfl, L0.K 52 rfl, ?_⟩
        rw [q4.1]
        refine ⟨L0.K 65 rfl, ?_, ?_⟩
        · rw [ei, show hN h' 65 = 32768 from L0.N 64 rfl]
          exact jI_in (by omega) (by omega) (by omega)
        · rw [ei, jI_nat (by omega) (by omega), Int.toNat_natCast, jI_s (by decide) (by decide)]
          have qq : Fr (fun a => a = 65) noT h' (sI h' 65 (8 * (oneC T).val + i) (jI 0)) := (Fr.refl (fun a => a = 65) noT h').sI rfl _ _
          refine ih (i + 1) _ _ _ (by omega) ⟨(qq.I (by omega) _).trans q1, (qq.I (by omega) _).trans q2, (qq.I (by omega) _).trans q3, q4.F qq (by omega) (by omega), q5.sI (by omega) _ _⟩ (fun y => (qq.I (by omega) _).trans (h64 y)) (fun j hj => ?_) (jI_add _ _)
          by_cases e : j = i
          · subst e
            exact sI_at _ _ _ _
          · exact (sI_k _ _ (by omega) _).trans (h65 j (by omega))
  have r23 : ∀ (t k : Nat) (kI : Int32) (h' : mj_H) (x2 : Option Value), k + t = cnt → Q h' → (∀ y : Fin cnt, y.val < k → hI h' 64 y.val = jI (if y = oneC T then 1 else 0)) → kI = jI k → Run 23 [some (.ref 52), some (.int kI), x2] [] h' (0, 0) := by
    intro t
    induction t with
    | zero =>
      rintro k kI h' x2 ht ⟨q1, q2, q3, q4, q5⟩ h64 rfl
      have L0 := L.F q5 (fun _ z => z.elim)
      refine hR 60 15 _ _ _ _ _ _ rfl ?_
      refine ⟨L0.K 52 rfl, _, L0.R 52 0 _ rfl, L0.K 46 rfl, ?_⟩
      rw [ecc q5]
      refine ⟨fun c => ?_, fun c => ?_⟩
      · refine hR 60 33 _ _ _ _ _ _ rfl ?_
        exact r61 8 0 _ h' _ (by omega) ⟨q1, q2, q3, q4, q5⟩ (fun y => h64 y (by have := y.isLt; omega)) (fun j hj => absurd hj (Nat.not_lt_zero j)) rfl
      · simp (disch := omega) only [mj_lcm, jI_lt, jI_le, jI_eq, jL_lt, jL_le, jL_eq, jI_lt0, jI_0le, jI_0lt, jI_le0, jI_eq0, jL_eq0, jI_L, jI_add, jI_sub, jI_mul, jI_neg, jL_add, jL_sub, jL_mul, jL_neg, jL_I, jI_div, jI_mod, jL_div, jL_mod] at c
        omega
    | succ t ih =>
      rintro k kI h' x2 ht ⟨q1, q2, q3, q4, q5⟩ h64 rfl
      have L0 := L.F q5 (fun _ z => z.elim)
      have r52 : ∀ (v : Int), v = (if k = (oneC T).val then 1 else 0) → Run 52 [some (.ref 52), some (.int (jI k)), x2] [.int (jI v), .int (jI k), .ref 64] h' (0, 0) := by
        intro v hv
        have ev : jI v &&& 1 = jI v := by
          by_cases z : k = (oneC T).val
          · rw [if_pos z] at hv
            rw [hv]
            rfl
          · rw [if_neg z] at hv
            rw [hv]
            rfl
        refine hR 60 30 _ _ _ _ _ _ rfl ?_
        refine ⟨L0.K 64 rfl, ?_, ?_⟩
        · rw [show hN h' 64 = 4096 from L0.N 63 rfl]
          exact jI_in (by omega) (by omega) (by omega)
        · rw [jI_nat (by omega) (by omega), Int.toNat_natCast, ev]
          have qq : Fr (fun a => a = 64) noT h' (sI h' 64 k (jI v)) := (Fr.refl (fun a => a = 64) noT h').sI rfl _ _
          refine ih (k + 1) _ _ _ (by omega) ⟨(qq.I (by omega) _).trans q1, (qq.I (by omega) _).trans q2, (qq.I (by omega) _).trans q3, q4.F qq (by omega) (by omega), q5.sI (by omega) _ _⟩ (fun y hy => ?_) (jI_add _ _)
          by_cases e : y.val = k
          · rw [e]
            refine (sI_at _ _ _ _).trans ?_
            rw [hv]
            congr 1
            by_cases z : y = oneC T
            · rw [if_pos z, if_pos (by rw [← z]; exact e.symm)]
            · rw [if_neg z, if_neg (fun y2 => z (Fin.ext (e.trans y2)))]
          · exact (sI_k _ _ e _).trans (h64 y (by omega))
      refine hR 60 15 _ _ _ _ _ _ rfl ?_
      refine ⟨L0.K 52 rfl, _, L0.R 52 0 _ rfl, L0.K 46 rfl, ?_⟩
      rw [ecc q5]
      refine ⟨fun c => ?_, fun c => ?_⟩
      · simp (disch := omega) only [mj_lcm, jI_lt, jI_le, jI_eq, jL_lt, jL_le, jL_eq, jI_lt0, jI_0le, jI_0lt, jI_le0, jI_eq0, jL_eq0, jI_L, jI_add, jI_sub, jI_mul, jI_neg, jL_add, jL_sub, jL_mul, jL_neg, jL_I, jI_div, jI_mod, jL_div, jL_mod] at c
        omega
      · refine ⟨L0.K 52 rfl, _, L0.R 52 11 _ rfl, L0.K 52 rfl, ?_⟩
        rw [q4.1]
        refine ⟨fun c2 => ?_, fun c2 => ?_⟩
        · simp (disch := omega) only [mj_lcm, jI_lt, jI_le, jI_eq, jL_lt, jL_le, jL_eq, jI_lt0, jI_0le, jI_0lt, jI_le0, jI_eq0, jL_eq0, jI_L, jI_add, jI_sub, jI_mul, jI_neg, jL_add, jL_sub, jL_mul, jL_neg, jL_I, jI_div, jI_mod, jL_div, jL_mod] at c2
          exact r52 1 (by rw [if_pos (by omega)])
        · simp (disch := omega) only [mj_lcm, jI_lt, jI_le, jI_eq, jL_lt, jL_le, jL_eq, jI_lt0, jI_0le, jI_0lt, jI_le0, jI_eq0, jL_eq0, jI_L, jI_add, jI_sub, jI_mul, jI_neg, jL_add, jL_sub, jL_mul, jL_neg, jL_I, jI_div, jI_mod, jL_div, jL_mod] at c2
          exact r52 0 (by rw [if_neg (by omega)])
  have F2 : Fr inGj noT h (sI (sI h 52 7 (jI 0)) 52 9 (jI 1)) := ((Fr.refl inGj noT h).sI (by omega) _ _).sI (by omega) _ _
  have L2 := L.F F2 (fun _ z => z.elim)
  have e5 : hI (sI (sI h 52 7 (jI 0)) 52 9 (jI 1)) 52 5 = jI (oneC T).val := (sI_k _ _ (by decide) _).trans ((sI_k _ _ (by decide) _).trans hG.1)
  have e7 : hI (sI (sI h 52 7 (jI 0)) 52 9 (jI 1)) 52 7 = jI 0 := (sI_k _ _ (by decide) _).trans (sI_at _ _ _ _)
  have e9 : hI (sI (sI h 52 7 (jI 0)) 52 9 (jI 1)) 52 9 = jI 1 := sI_at _ _ _ _
  have e61 : ∀ x : Fin cnt, hI (sI (sI h 52 7 (jI 0)) 52 9 (jI 1)) 61 x.val = jI (o x) := fun x => (congrFun ((sI_a _ (by decide) _ _).trans (sI_a _ (by decide) _ _)) _).trans (hG.2 x)
  generalize hh2 : sI (sI h 52 7 (jI 0)) 52 9 (jI 1) = h2 at F2 L2 e5 e7 e9 e61
  have r10 : ∀ (x1 x2 : Option Value), Run 10 [some (.ref 52), x1, x2] [] h2 (0, 0) := by
    intro x1 x2
    refine hR 60 6 _ _ _ _ _ _ rfl ?_
    refine ⟨L2.K 52 rfl, _, L2.R 52 10 _ rfl, L2.K 52 rfl, ?_⟩
    rw [e5]
    refine ⟨L2.K 63 rfl, ?_, ?_⟩
    · rw [show hN h2 63 = 4096 from L2.N 62 rfl]
      exact jI_in (by decide) (by decide) (by decide)
    · rw [show (jI 0).toNatClampNeg = 0 from jI_nat (by decide) (by decide), jI_s (by omega) (by omega), jI_s (by omega) (by omega)]
      have qq : Fr (fun a => a = 63) noT h2 (sI h2 63 0 (jI (oneC T).val)) := (Fr.refl (fun a => a = 63) noT h2).sI rfl _ _
      refine hR 60 13 _ _ _ _ _ _ rfl ?_
      exact r23 cnt 0 _ _ _ (by omega) ⟨(qq.I (by omega) _).trans e7, (qq.I (by omega) _).trans e9, sI_at _ _ _ _, ⟨(qq.I (by omega) _).trans e5, fun x => (qq.I (by omega) _).trans (e61 x)⟩, F2.sI (by omega) _ _⟩ (fun y hy => absurd hy (Nat.not_lt_zero _)) rfl
  refine hR 60 0 _ _ _ _ _ _ rfl ?_
  refine ⟨L.K 52 rfl, L.K 52 rfl, ?_⟩
  rw [hh2]
  exact r10 _ _
end
