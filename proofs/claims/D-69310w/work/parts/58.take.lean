/-! contract: Units.take -/
theorem isWd_unique {d w v : Int} (hw : isWd d w) (hv : isWd d v) : w = v := by
  obtain ⟨a1, a2, a3⟩ := hw
  obtain ⟨b1, b2, b3⟩ := hv
  have h1 := lt_of_sq (x := w) (y := v + 1) (by omega) (by omega)
  have h2 := lt_of_sq (x := v) (y := w + 1) (by omega) (by omega)
  omega
/-- the first form of the principal ring -/
def frF (d w : Int) : Fm := (1, (if (w - d).tmod 2 = 0 then w else w - 1), ((if (w - d).tmod 2 = 0 then w else w - 1) * (if (w - d).tmod 2 = 0 then w else w - 1) - d).tdiv 4)
/-- what the unit's numbers are -/
def isUn (d w t u x6 x7 : Int) : Prop := (d < 0 ∧ w = -1 ∧ t = (if d = -3 then 1 else if d = -4 then 0 else 2) ∧ u = (if d = -3 ∨ d = -4 then 1 else 0) ∧ x6 = 0 ∧ x7 = 0) ∨ (0 < d ∧ isWd d w ∧ ∃ N : Nat, okF (frF d w) ∧ trR d w (frF d w) N (frF d w) (1, 0, 0, 1) (0, 0) ∧ (itM d w N (frF d w) (1, 0, 0, 1)).1.natAbs + (itM d w N (frF d w) (1, 0, 0, 1)).2.2.2.natAbs < 4294967296 ^ 1024 ∧ (itM d w N (frF d w) (1, 0, 0, 1)).1 + (itM d w N (frF d w) (1, 0, 0, 1)).2.2.2 ≠ 0 ∧ t = ((itM d w N (frF d w) (1, 0, 0, 1)).1 + (itM d w N (frF d w) (1, 0, 0, 1)).2.2.2).natAbs ∧ u = (itM d w N (frF d w) (1, 0, 0, 1)).2.2.1.natAbs ∧ x6 = (itX d w (frF d w).2.1 N (frF d w) (1, 0, 0, 1) (0, 0)).1 ∧ x7 = (itX d w (frF d w).2.1 N (frF d w) (1, 0, 0, 1) (0, 0)).2)
abbrev inW (a : Nat) : Prop := 2 ≤ a ∧ a ≤ 45
/-- FormHouse$Units.take(J)V; cuts at [35, 77, 114, 118] -/
def cl_19_3 : List mj_E := (128, false, .invokevirtual 81, 3, 52, 3, 1, 0, 0) ::
  (131, false, .return_, 1, 0, 0, 0, 0, 0) ::
  []
def cl_19_2 : List mj_E := (88, false, .ifCond .eq 11, 3, 53, 0, 0, 0, 0) ::
  (91, false, .lload_n 1, 1, 0, 0, 0, 0, 0) ::
  (92, false, .ldc2_w 72, 3, 0, 0, 0, 0, jL (-4)) ::
  (95, false, .lcmp, 1, 0, 0, 0, 0, 0) ::
  (96, false, .ifCond .ne 7, 3, 55, 0, 0, 0, 0) ::
  (99, false, .lconst 1, 1, 0, 0, 0, 0, jL 1) ::
  (100, false, .goto 4, 3, 56, 0, 0, 0, 0) ::
  (103, false, .lconst 0, 1, 0, 0, 0, 0, jL 0) ::
  (104, false, .invokevirtual 63, 3, 21, 1, 5, 0, 0) ::
  (107, false, .goto 7, 3, 60, 0, 0, 0, 0) ::
  (110, false, .aload_n 0, 1, 0, 0, 0, 0, 0) ::
  (111, false, .invokevirtual 76, 3, 23, 0, 1, 0, 0) ::
  (114, true, .lload_n 1, 1, 0, 0, 0, 0, 0) ::
  (115, false, .lconst 1, 1, 0, 0, 0, 0, jL 1) ::
  (116, false, .land, 1, 0, 0, 0, 0, 0) ::
  (117, false, .lstore_n 3, 1, 0, 0, 0, 0, 0) ::
  (118, true, .aload_n 0, 1, 0, 0, 0, 0, 0) ::
  (119, false, .lconst 1, 1, 0, 0, 0, 0, jL 1) ::
  (120, false, .lload_n 3, 1, 0, 0, 0, 0, 0) ::
  (121, false, .lload_n 3, 1, 0, 0, 0, 0, 0) ::
  (122, false, .lload_n 1, 1, 0, 0, 0, 0, 0) ::
  (123, false, .lsub, 1, 0, 0, 0, 0, 0) ::
  (124, false, .ldc2_w 79, 3, 0, 0, 0, 0, jL 4) ::
  (127, false, .ldiv, 1, 0, 0, 0, 0, 0) ::
  cl_19_3
def cl_19_1 : List mj_E := (42, false, .getfield 55, 3, 1, 8, 2, 0, 0) ::
  (45, false, .iconst 0, 1, 0, 0, 0, jI 0, 0) ::
  (46, false, .aaload, 1, 0, 0, 0, 0, 0) ::
  (47, false, .lload_n 1, 1, 0, 0, 0, 0, 0) ::
  (48, false, .ldc2_w 70, 3, 0, 0, 0, 0, jL (-3)) ::
  (51, false, .lcmp, 1, 0, 0, 0, 0, 0) ::
  (52, false, .ifCond .ne 7, 3, 33, 0, 0, 0, 0) ::
  (55, false, .lconst 1, 1, 0, 0, 0, 0, jL 1) ::
  (56, false, .goto 18, 3, 40, 0, 0, 0, 0) ::
  (59, false, .lload_n 1, 1, 0, 0, 0, 0, 0) ::
  (60, false, .ldc2_w 72, 3, 0, 0, 0, 0, jL (-4)) ::
  (63, false, .lcmp, 1, 0, 0, 0, 0, 0) ::
  (64, false, .ifCond .ne 7, 3, 39, 0, 0, 0, 0) ::
  (67, false, .lconst 0, 1, 0, 0, 0, 0, jL 0) ::
  (68, false, .goto 6, 3, 40, 0, 0, 0, 0) ::
  (71, false, .ldc2_w 74, 3, 0, 0, 0, 0, jL 2) ::
  (74, false, .invokevirtual 63, 3, 21, 1, 5, 0, 0) ::
  (77, true, .aload_n 0, 1, 0, 0, 0, 0, 0) ::
  (78, false, .getfield 55, 3, 1, 8, 2, 0, 0) ::
  (81, false, .iconst 1, 1, 0, 0, 0, jI 1, 0) ::
  (82, false, .aaload, 1, 0, 0, 0, 0, 0) ::
  (83, false, .lload_n 1, 1, 0, 0, 0, 0, 0) ::
  (84, false, .ldc2_w 70, 3, 0, 0, 0, 0, jL (-3)) ::
  (87, false, .lcmp, 1, 0, 0, 0, 0, 0) ::
  cl_19_2
def cl_19_0 : List mj_E := (0, false, .aload_n 0, 1, 0, 0, 0, 0, 0) ::
  (1, false, .getfield 21, 3, 1, 1, 2, 0, 0) ::
  (4, false, .lload_n 1, 1, 0, 0, 0, 0, 0) ::
  (5, false, .invokevirtual 59, 3, 20, 1, 3, 0, 0) ::
  (8, false, .aload_n 0, 1, 0, 0, 0, 0, 0) ::
  (9, false, .getfield 55, 3, 1, 8, 2, 0, 0) ::
  (12, false, .bipush 6, 2, 0, 0, 0, jI 6, 0) ::
  (14, false, .aaload, 1, 0, 0, 0, 0, 0) ::
  (15, false, .lconst 0, 1, 0, 0, 0, 0, jL 0) ::
  (16, false, .invokevirtual 63, 3, 21, 1, 5, 0, 0) ::
  (19, false, .aload_n 0, 1, 0, 0, 0, 0, 0) ::
  (20, false, .getfield 55, 3, 1, 8, 2, 0, 0) ::
  (23, false, .bipush 7, 2, 0, 0, 0, jI 7, 0) ::
  (25, false, .aaload, 1, 0, 0, 0, 0, 0) ::
  (26, false, .lconst 0, 1, 0, 0, 0, 0, jL 0) ::
  (27, false, .invokevirtual 63, 3, 21, 1, 5, 0, 0) ::
  (30, false, .aload_n 0, 1, 0, 0, 0, 0, 0) ::
  (31, false, .iconst 0, 1, 0, 0, 0, jI 0, 0) ::
  (32, false, .putfield 66, 3, 1, 9, 0, 0, 0) ::
  (35, true, .lload_n 1, 1, 0, 0, 0, 0, 0) ::
  (36, false, .lconst 0, 1, 0, 0, 0, 0, jL 0) ::
  (37, false, .lcmp, 1, 0, 0, 0, 0, 0) ::
  (38, false, .ifCond .ge 72, 3, 58, 0, 0, 0, 0) ::
  (41, false, .aload_n 0, 1, 0, 0, 0, 0, 0) ::
  cl_19_1
def cd_19 : List mj_E := cl_19_0
def cx_19 : mj_X := (0, [], [])
theorem tb_19 : mj_tab (mj_mt 19) cx_19 cd_19 mj_mh [(0, 0, 0), (1191, 0, 0), (0, 0, 0), (3054, 0, 0), (0, 0, 0), (1199, 0, 0), (0, 0, 0), (0, 0, 0), (0, 0, 0), (3059, 0, 0), (0, 0, 0), (1199, 0, 0), (0, 0, 0), (0, 0, 0), (0, 0, 0), (3059, 0, 0), (0, 0, 0), (0, 0, 0), (1201, 0, 0), (0, 0, 0), (0, 0, 0), (0, 0, 0), (0, 0, 0), (0, 0, 0), (1199, 0, 0), (0, 0, 0), (0, 0, 0), (0, 0, 0), (3066, 0, 0), (0, 0, 0), (0, 0, 0), (0, 0, 0), (0, 0, 0), (0, 0, 0), (3067, 0, 0), (0, 0, 0), (0, 0, 0), (0, 0, 0), (0, 0, 0), (3068, 0, 0), (3059, 0, 0), (0, 0, 0), (1199, 0, 0), (0, 0, 0), (0, 0, 0), (0, 0, 0), (3066, 0, 0), (0, 0, 0), (0, 0, 0), (0, 0, 0), (3067, 0, 0), (0, 0, 0), (0, 0, 0), (0, 0, 0), (0, 0, 0), (0, 0, 0), (3059, 0, 0), (0, 0, 0), (0, 0, 0), (3069, 0, 0), (0, 0, 0), (0, 0, 0), (0, 0, 0), (0, 0, 0), (0, 0, 0), (0, 0, 0), (0, 0, 0), (0, 0, 0), (0, 0, 0), (0, 0, 0), (3073, 0, 0), (0, 0, 0), (3238, 0, 0), (0, 0, 0)] = true := mj_tab_f (by decide +kernel)
theorem ct_19 (G : mj_G) {h : mj_H} (L : isLay h) (hm : isM0 h 8) {d w t u x6 x7 : Int} (hd : -1048576 ≤ d ∧ d ≤ 1048576 ∧ d ≠ 0) (hu : isUn d w t u x6 x7) (b1 : t.natAbs + (u * (d % 2)).natAbs < 4294967296 ^ 1024) (b2 : (u * 1).natAbs < 4294967296 ^ 1024) (b3 : (u * -((d % 2 - d).tdiv 4)).natAbs < 4294967296 ^ 1024) : mj_Ct G (mj_mt 19) 0 0 [.ref 2, .long (jL d)] h (fun o h' => o = .returned none ∧ isRr h' 7 d w ∧ isW h' 30 t ∧ isW h' 32 u ∧ isW h' 42 x6 ∧ isW h' 44 x7 ∧ isW h' 34 ((t - u * (d % 2)).tdiv 2) ∧ isW h' 36 (u * -((d % 2 - d).tdiv 4)) ∧ isW h' 38 (u * 1) ∧ isW h' 40 ((t + u * (d % 2)).tdiv 2) ∧ isM0 h' 8 ∧ Fr inW tM8 h h') := by
  refine mj_Ct_of mj_ok tb_19 rfl rfl (Nat.le_of_ble_eq_true rfl) (fun Run hR => ?_)
  have ht8 : ∀ a, tM8 a → a = 8 ∨ a = 99 ∨ a = 114 ∨ a = 73 := fun a z => Or.inl z
  have hcd : -1048576 ≤ (d % 2 - d).tdiv 4 ∧ (d % 2 - d).tdiv 4 ≤ 1048576 := by
    have h2 := Int.natAbs_tdiv (d % 2 - d) 4
    have h3 : (4 : Int).natAbs = 4 := rfl
    have h4 : (d % 2 - d).natAbs.div 4 = (d % 2 - d).natAbs / 4 := rfl
    rw [h3, h4] at h2
    omega
  have r118 : ∀ (h' : mj_H) (bL : Int64), bL = jL (d % 2) → Fr inW tM8 h h' → isRr h' 7 d w → isW h' 30 t → isW h' 32 u → isW h' 42 x6 → isW h' 44 x7 → isM0 h' 8 → Run 118 [some (.ref 2), some (.long (jL d)), none, some (.long bL), none] [] h' (0, 0) := by
    rintro h' bL rfl F hr' w0 w1 w6 w7 hm'
    have L0 := L.F F ht8
    have c52 := ct_52 G L0 w0 w1 (a := 1) (b := d % 2) (c := (d % 2 - d).tdiv 4) (by omega) (by omega) (by omega) b1 b2 b3
    rw [← jL_div (by omega) (by omega) (by decide) (by decide), ← jL_sub] at c52
    refine hR 60 64 _ _ _ _ _ _ rfl ?_
    refine ⟨by decide, L0.K 2 rfl, jcallP c52 ?_⟩
    rintro o h2 ⟨rfl, v34, v36, v38, v40, f2⟩
    have q2 : Fr (fun a => (3 ≤ a ∧ a ≤ 6) ∨ (23 ≤ a ∧ a ≤ 28) ∨ (34 ≤ a ∧ a ≤ 41)) noT h' h2 := f2.to _ (by first | (simp; done) | (simp; omega) | omega)
    refine ⟨rfl, hr'.F q2 (by omega), w0.F q2 (by omega) (by omega) (fun z => z), w1.F q2 (by omega) (by omega) (fun z => z), w6.F q2 (by omega) (by omega) (fun z => z), w7.F q2 (by omega) (by omega) (fun z => z), v34, v36, v38, v40, ?_, F.trans (q2.mono (by intro a z; omega) (fun _ z => z.elim))⟩
    obtain ⟨a, b, c, e, hM⟩ := hm'
    exact ⟨a, b, c, e, hM.F q2 (fun _ _ z => z)⟩
  have r114 : ∀ (h' : mj_H) (x3 x4 : Option Value), Fr inW tM8 h h' → isRr h' 7 d w → isW h' 30 t → isW h' 32 u → isW h' 42 x6 → isW h' 44 x7 → isM0 h' 8 → Run 114 [some (.ref 2), some (.long (jL d)), none, x3, x4] [] h' (0, 0) := by
    intro h' x3 x4 F hr' w0 w1 w6 w7 hm'
    refine hR 60 60 _ _ _ _ _ _ rfl ?_
    have e1 : jL d &&& jL 1 = jL (d % 2) := jL_mask (k := 1) (by decide) rfl
    exact r118 h' _ e1 F hr' w0 w1 w6 w7 hm'
  have M0F : ∀ {S : Nat → Prop} {h1 h2 : mj_H}, Fr S noT h1 h2 → isM0 h1 8 → isM0 h2 8 := by
    rintro S h1 h2 f ⟨a, b, c, e, hM⟩
    exact ⟨a, b, c, e, hM.F f (fun _ _ z => z)⟩
  have r77 : ∀ (h' : mj_H) (x3 x4 : Option Value), d < 0 → u = (if d = -3 ∨ d = -4 then 1 else 0) → Fr inW tM8 h h' → isRr h' 7 d w → isW h' 30 t → isW h' 42 x6 → isW h' 44 x7 → isM0 h' 8 → Run 77 [some (.ref 2), some (.long (jL d)), none, x3, x4] [] h' (0, 0) := by
    intro h' x3 x4 hneg hu2 F hr' w0 w6 w7 hm'
    have L0 := L.F F ht8
    have fin : ∀ (v : Int), v = u → -5 < v → v < 5 → mj_Ct G (mj_mt 21) 0 0 [.ref 32, .long (jL v)] h' (fun o h2 => o = .returned none ∧ isW h2 32 u ∧ FrI [32, 33] h' h2) := by
      rintro v rfl hv1 hv2
      exact ct_21 G (L0.W 32 rfl) (by omega) (by omega)
    have aft : ∀ (o : Outcome) (h2 : mj_H), (o = .returned none ∧ isW h2 32 u ∧ FrI [32, 33] h' h2) → o = .returned none ∧ Run 114 [some (.ref 2), some (.long (jL d)), none, x3, x4] [] h2 (0, 0) := by
      rintro o h2 ⟨rfl, v, f⟩
      have q : Fr (fun a => a = 32 ∨ a = 33) noT h' h2 := f.to _ (by first | (simp; done) | (simp; omega) | omega)
      exact ⟨rfl, r114 h2 _ _ (F.trans (q.mono (by intro a z; omega) (fun _ z => z.elim))) (hr'.F q (by omega)) (w0.F q (by omega) (by omega) (fun z => z)) v (w6.F q (by omega) (by omega) (fun z => z)) (w7.F q (by omega) (by omega) (fun z => z)) (M0F q hm')⟩
    refine hR 60 41 _ _ _ _ _ _ rfl ?_
    refine ⟨L0.K 2 rfl, _, L0.R 2 8 _ rfl, Or.inl (L0.K 29 rfl), (L0.num 1 (by decide)).1, _, (L0.num 1 (by decide)).2, ?_⟩
    refine ⟨fun c => ?_, fun c => ⟨fun c2 => ?_, fun c2 => ?_⟩⟩
    · simp (disch := omega) only [mj_lcm, jI_lt, jI_le, jI_eq, jL_lt, jL_le, jL_eq, jI_lt0, jI_0le, jI_0lt, jI_le0, jI_eq0, jL_eq0, jI_L, jI_add, jI_sub, jI_mul, jI_neg, jL_add, jL_sub, jL_mul, jL_neg, jL_I, jI_div, jI_mod, jL_div, jL_mod] at c
      refine ⟨(L0.W 32 rfl).1, jcallP (fin 1 (by rw [hu2, if_pos (Or.inl c)]) (by decide) (by decide)) ?_⟩
      intro o h2 hp
      obtain ⟨rfl, hr2⟩ := aft o h2 hp
      exact hr2
    · simp (disch := omega) only [mj_lcm, jI_lt, jI_le, jI_eq, jL_lt, jL_le, jL_eq, jI_lt0, jI_0le, jI_0lt, jI_le0, jI_eq0, jL_eq0, jI_L, jI_add, jI_sub, jI_mul, jI_neg, jL_add, jL_sub, jL_mul, jL_neg, jL_I, jI_div, jI_mod, jL_div, jL_mod] at c2
      refine ⟨(L0.W 32 rfl).1, jcallP (fin 1 (by rw [hu2, if_pos (Or.inr c2)]) (by decide) (by decide)) ?_⟩
      intro o h2 hp
      obtain ⟨rfl, hr2⟩ := aft o h2 hp
      exact hr2
    · simp (disch := omega) only [mj_lcm, jI_lt, jI_le, jI_eq, jL_lt, jL_le, jL_eq, jI_lt0, jI_0le, jI_0lt, jI_le0, jI_eq0, jL_eq0, jI_L, jI_add, jI_sub, jI_mul, jI_neg, jL_add, jL_sub, jL_mul, jL_neg, jL_I, jI_div, jI_mod, jL_div, jL_mod] at c c2
      refine ⟨(L0.W 32 rfl).1, jcallP (fin 0 (by rw [hu2, if_neg (by omega)]) (by decide) (by decide)) ?_⟩
      intro o h2 hp
      obtain ⟨rfl, hr2⟩ := aft o h2 hp
      exact hr2
  have r35 : ∀ (h' : mj_H) (x3 x4 : Option Value), Fr inW noT h h' → isRr h' 7 d w → isW h' 42 0 → isW h' 44 0 → isM0 h' 8 → Run 35 [some (.ref 2), some (.long (jL d)), none, x3, x4] [] h' (0, 0) := by
    intro h' x3 x4 F hr' w6 w7 hm'
    have L0 := L.F F (fun _ z => z.elim)
    have F8 : Fr inW tM8 h h' := F.mono (fun _ z => z) (fun _ z => z.elim)
    refine hR 60 19 _ _ _ _ _ _ rfl ?_
    refine ⟨fun c => ?_, fun c => ?_⟩
    · simp (disch := omega) only [mj_lcm, jI_lt, jI_le, jI_eq, jL_lt, jL_le, jL_eq, jI_lt0, jI_0le, jI_0lt, jI_le0, jI_eq0, jL_eq0, jI_L, jI_add, jI_sub, jI_mul, jI_neg, jL_add, jL_sub, jL_mul, jL_neg, jL_I, jI_div, jI_mod, jL_div, jL_mod] at c
      rcases hu with hu | ⟨p1, p2, N, p3, p4, p5, p6, rfl, rfl, rfl, rfl⟩
      · omega
      · have hw2 : 0 ≤ w ∧ w < 2147483648 := by
          refine ⟨p2.1, ?_⟩
          rcases Int.lt_or_le w 2147483648 with g | g
          · exact g
          · have := sq_le (show (0 : Int) ≤ 2147483648 by decide) g
            have := p2.2.1
            omega
        refine ⟨L0.K 2 rfl, jcallP (ct_23 G L0 hr' hm' w6 w7 ⟨p1, by omega⟩ hw2 (f0 := frF d w) rfl p3 p4 p5 p6) ?_⟩
        rintro o h2 ⟨rfl, v30, v32, v42, v44, hm2, q2⟩
        exact r114 h2 _ _ (F8.trans (q2.mono (by intro a z; omega) (fun _ z => z))) (hr'.F q2 (by omega)) v30 v32 v42 v44 hm2
    · simp (disch := omega) only [mj_lcm, jI_lt, jI_le, jI_eq, jL_lt, jL_le, jL_eq, jI_lt0, jI_0le, jI_0lt, jI_le0, jI_eq0, jL_eq0, jI_L, jI_add, jI_sub, jI_mul, jI_neg, jL_add, jL_sub, jL_mul, jL_neg, jL_I, jI_div, jI_mod, jL_div, jL_mod] at c
      rcases hu with ⟨p1, p2, p3, p4, rfl, rfl⟩ | hu
      rotate_left
      · omega
      · have fin : ∀ (v : Int), v = t → -5 < v → v < 5 → mj_Ct G (mj_mt 21) 0 0 [.ref 30, .long (jL v)] h' (fun o h2 => o = .returned none ∧ isW h2 30 t ∧ FrI [30, 31] h' h2) := by
          rintro v rfl hv1 hv2
          exact ct_21 G (L0.W 30 rfl) (by omega) (by omega)
        have aft : ∀ (o : Outcome) (h2 : mj_H), (o = .returned none ∧ isW h2 30 t ∧ FrI [30, 31] h' h2) → o = .returned none ∧ Run 77 [some (.ref 2), some (.long (jL d)), none, x3, x4] [] h2 (0, 0) := by
          rintro o h2 ⟨rfl, v, f⟩
          have q : Fr (fun a => a = 30 ∨ a = 31) noT h' h2 := f.to _ (by first | (simp; done) | (simp; omega) | omega)
          exact ⟨rfl, r77 h2 _ _ p1 p4 (F8.trans (q.mono (by intro a z; omega) (fun _ z => z.elim))) (hr'.F q (by omega)) v (w6.F q (by omega) (by omega) (fun z => z)) (w7.F q (by omega) (by omega) (fun z => z)) (M0F q hm')⟩
        refine ⟨L0.K 2 rfl, _, L0.R 2 8 _ rfl, Or.inl (L0.K 29 rfl), (L0.num 0 (by decide)).1, _, (L0.num 0 (by decide)).2, ?_⟩
        refine ⟨fun c1 => ?_, fun c1 => ⟨fun c2 => ?_, fun c2 => ?_⟩⟩
        · simp (disch := omega) only [mj_lcm, jI_lt, jI_le, jI_eq, jL_lt, jL_le, jL_eq, jI_lt0, jI_0le, jI_0lt, jI_le0, jI_eq0, jL_eq0, jI_L, jI_add, jI_sub, jI_mul, jI_neg, jL_add, jL_sub, jL_mul, jL_neg, jL_I, jI_div, jI_mod, jL_div, jL_mod] at c1
          refine ⟨(L0.W 30 rfl).1, jcallP (fin 1 (by rw [p3, if_pos c1]) (by decide) (by decide)) ?_⟩
          intro o h2 hp
          obtain ⟨rfl, hr2⟩ := aft o h2 hp
          exact hr2
        · simp (disch := omega) only [mj_lcm, jI_lt, jI_le, jI_eq, jL_lt, jL_le, jL_eq, jI_lt0, jI_0le, jI_0lt, jI_le0, jI_eq0, jL_eq0, jI_L, jI_add, jI_sub, jI_mul, jI_neg, jL_add, jL_sub, jL_mul, jL_neg, jL_I, jI_div, jI_mod, jL_div, jL_mod] at c1 c2
          refine ⟨(L0.W 30 rfl).1, jcallP (fin 0 (by rw [p3, if_neg c1, if_pos c2]) (by decide) (by decide)) ?_⟩
          intro o h2 hp
          obtain ⟨rfl, hr2⟩ := aft o h2 hp
          exact hr2
        · simp (disch := omega) only [mj_lcm, jI_lt, jI_le, jI_eq, jL_lt, jL_le, jL_eq, jI_lt0, jI_0le, jI_0lt, jI_le0, jI_eq0, jL_eq0, jI_L, jI_add, jI_sub, jI_mul, jI_neg, jL_add, jL_sub, jL_mul, jL_neg, jL_I, jI_div, jI_mod, jL_div, jL_mod] at c1 c2
          refine ⟨(L0.W 30 rfl).1, jcallP (fin 2 (by rw [p3, if_neg c1, if_neg c2]) (by decide) (by decide)) ?_⟩
          intro o h2 hp
          obtain ⟨rfl, hr2⟩ := aft o h2 hp
          exact hr2
  refine hR 60 0 _ _ _ _ _ _ rfl ?_
  refine ⟨L.K 2 rfl, _, L.R 2 1 _ rfl, L.K 7 rfl, jcallP (ct_20 G (L.K 7 rfl) (by omega) hd.2.2) ?_⟩
  rintro o h1 ⟨rfl, w', hr1, hw', q1⟩
  have ew : w' = w := by
    rcases hw' with ⟨e1, e2⟩ | ⟨e1, e2⟩ <;> rcases hu with ⟨p1, p2, -⟩ | ⟨p1, p2, -⟩
    · omega
    · omega
    · omega
    · exact isWd_unique e2 p2
  subst ew
  have L1 := L.F q1 (fun _ z => z.elim)
  refine ⟨L1.K 2 rfl, _, L1.R 2 8 _ rfl, Or.inl (L1.K 29 rfl), (L1.num 6 (by decide)).1, _, (L1.num 6 (by decide)).2, (L1.W 42 rfl).1, jcallP (ct_21 G (L1.W 42 rfl) (v := 0) (by decide) (by decide)) ?_⟩
  rintro o h2 ⟨rfl, v6, f2⟩
  have q2 : Fr (fun a => a = 42 ∨ a = 43) noT h1 h2 := f2.to _ (by first | (simp; done) | (simp; omega) | omega)
  have L2 := L1.fr f2.1
  refine ⟨L2.K 2 rfl, _, L2.R 2 8 _ rfl, Or.inl (L2.K 29 rfl), (L2.num 7 (by decide)).1, _, (L2.num 7 (by decide)).2, (L2.W 44 rfl).1, jcallP (ct_21 G (L2.W 44 rfl) (v := 0) (by decide) (by decide)) ?_⟩
  rintro o h3 ⟨rfl, v7, f3⟩
  have q3 : Fr (fun a => a = 44 ∨ a = 45) noT h2 h3 := f3.to _ (by first | (simp; done) | (simp; omega) | omega)
  have L3 := L2.fr f3.1
  refine ⟨L3.K 2 rfl, ?_⟩
  have q4 : Fr (fun a => a = 2) noT h3 (sI h3 2 9 (jI 0)) := (Fr.refl (fun a => a = 2) noT h3).sI rfl _ _
  have qq : Fr inW noT h (sI h3 2 9 (jI 0)) := (((q1.mono (by intro a z; omega) (fun _ z => z)).trans (q2.mono (by intro a z; omega) (fun _ z => z))).trans (q3.mono (by intro a z; omega) (fun _ z => z))).trans (q4.mono (by intro a z; omega) (fun _ z => z))
  exact r35 _ _ _ qq (((hr1.F q2 (by omega)).F q3 (by omega)).F q4 (by omega)) (((v6.fr f3 (by first | (simp; done) | (simp; omega) | omega) (by first | (simp; done) | (simp; omega) | omega))).F q4 (by omega) (by omega) (fun z => z)) (v7.F q4 (by omega) (by omega) (fun z => z)) (M0F qq hm)
