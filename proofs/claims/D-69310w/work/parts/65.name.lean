/-! contracts: the name of a ring -/
/-- a ring: all its forms are small, and it closes -/
def isRing (d w : Int) (F : Fm) (N : Nat) : Prop := (∀ i, okF (itF d w i F)) ∧ 0 < N ∧ itF d w N F = F ∧ ∀ i, 0 < i → i < N → itF d w i F ≠ F
/-- FormHouse$Reducer.name(LFormHouse$Form;LFormHouse$Form;)I; cuts at [10, 22, 31, 51, 70, 109, 113] -/
def cl_83_2 : List mj_E := (90, false, .getfield 29, 3, 6, 1, 1, 0, 0) ::
  (93, false, .lload 7, 2, 0, 0, 0, 0, 0) ::
  (95, false, .lcmp, 1, 0, 0, 0, 0, 0) ::
  (96, false, .ifCond .ne 13, 3, 57, 0, 0, 0, 0) ::
  (99, false, .aload_n 2, 1, 0, 0, 0, 0, 0) ::
  (100, false, .getfield 34, 3, 6, 2, 1, 0, 0) ::
  (103, false, .lload 9, 2, 0, 0, 0, 0, 0) ::
  (105, false, .lcmp, 1, 0, 0, 0, 0, 0) ::
  (106, false, .ifCond .eq 7, 3, 59, 0, 0, 0, 0) ::
  (109, true, .iconst 1, 1, 0, 0, 0, jI 1, 0) ::
  (110, false, .goto 4, 3, 60, 0, 0, 0, 0) ::
  (113, true, .iconst 0, 1, 0, 0, 0, jI 0, 0) ::
  (114, false, .istore 11, 2, 0, 0, 0, 0, 0) ::
  (116, false, .goto (-85), 3, 18, 0, 0, 0, 0) ::
  (119, false, .iload_n 3, 1, 0, 0, 0, 0, 0) ::
  (120, false, .ireturn, 1, 0, 0, 0, 0, 0) ::
  []
def cl_83_1 : List mj_E := (45, false, .aload 4, 2, 0, 0, 0, 0, 0) ::
  (47, false, .aload_n 2, 1, 0, 0, 0, 0, 0) ::
  (48, false, .invokevirtual 55, 3, 25, 1, 6, 0, 0) ::
  (51, true, .iinc 3 1, 3, 0, 0, 0, jI 1, 0) ::
  (54, false, .aload_n 0, 1, 0, 0, 0, 0, 0) ::
  (55, false, .getfield 7, 3, 3, 0, 1, 0, 0) ::
  (58, false, .lconst 0, 1, 0, 0, 0, 0, jL 0) ::
  (59, false, .lcmp, 1, 0, 0, 0, 0, 0) ::
  (60, false, .ifCond .le 10, 3, 37, 0, 0, 0, 0) ::
  (63, false, .aload_n 0, 1, 0, 0, 0, 0, 0) ::
  (64, false, .aload_n 2, 1, 0, 0, 0, 0, 0) ::
  (65, false, .invokevirtual 51, 3, 27, 1, 3, 0, 0) ::
  (68, false, .lstore 12, 2, 0, 0, 0, 0, 0) ::
  (70, true, .aload_n 0, 1, 0, 0, 0, 0, 0) ::
  (71, false, .getfield 7, 3, 3, 0, 1, 0, 0) ::
  (74, false, .lconst 0, 1, 0, 0, 0, 0, jL 0) ::
  (75, false, .lcmp, 1, 0, 0, 0, 0, 0) ::
  (76, false, .ifCond .le 37, 3, 59, 0, 0, 0, 0) ::
  (79, false, .aload_n 2, 1, 0, 0, 0, 0, 0) ::
  (80, false, .getfield 18, 3, 6, 0, 1, 0, 0) ::
  (83, false, .lload 5, 2, 0, 0, 0, 0, 0) ::
  (85, false, .lcmp, 1, 0, 0, 0, 0, 0) ::
  (86, false, .ifCond .ne 23, 3, 57, 0, 0, 0, 0) ::
  (89, false, .aload_n 2, 1, 0, 0, 0, 0, 0) ::
  cl_83_2
def cl_83_0 : List mj_E := (0, false, .iconst 0, 1, 0, 0, 0, jI 0, 0) ::
  (1, false, .istore_n 3, 1, 0, 0, 0, 0, 0) ::
  (2, false, .aload_n 2, 1, 0, 0, 0, 0, 0) ::
  (3, false, .aload_n 1, 1, 0, 0, 0, 0, 0) ::
  (4, false, .invokevirtual 55, 3, 25, 1, 6, 0, 0) ::
  (7, false, .aload_n 1, 1, 0, 0, 0, 0, 0) ::
  (8, false, .astore 4, 2, 0, 0, 0, 0, 0) ::
  (10, true, .aload_n 1, 1, 0, 0, 0, 0, 0) ::
  (11, false, .getfield 18, 3, 6, 0, 1, 0, 0) ::
  (14, false, .lstore 5, 2, 0, 0, 0, 0, 0) ::
  (16, false, .aload_n 1, 1, 0, 0, 0, 0, 0) ::
  (17, false, .getfield 29, 3, 6, 1, 1, 0, 0) ::
  (20, false, .lstore 7, 2, 0, 0, 0, 0, 0) ::
  (22, true, .aload_n 1, 1, 0, 0, 0, 0, 0) ::
  (23, false, .getfield 34, 3, 6, 2, 1, 0, 0) ::
  (26, false, .lstore 9, 2, 0, 0, 0, 0, 0) ::
  (28, false, .iconst 1, 1, 0, 0, 0, jI 1, 0) ::
  (29, false, .istore 11, 2, 0, 0, 0, 0, 0) ::
  (31, true, .iload 11, 2, 0, 0, 0, 0, 0) ::
  (33, false, .ifCond .eq 86, 3, 62, 0, 0, 0, 0) ::
  (36, false, .aload_n 2, 1, 0, 0, 0, 0, 0) ::
  (37, false, .aload 4, 2, 0, 0, 0, 0, 0) ::
  (39, false, .invokevirtual 59, 3, 84, 1, 6, 0, 0) ::
  (42, false, .ifCond .eq 9, 3, 27, 0, 0, 0, 0) ::
  cl_83_1
def cd_83 : List mj_E := cl_83_0
def cx_83 : mj_X := (1, [], [])
theorem tb_83 : mj_tab (mj_mt 83) cx_83 cd_83 mj_mh [(0, 0, 0), (0, 0, 0), (0, 0, 0), (0, 0, 0), (4141, 0, 0), (0, 0, 0), (0, 0, 0), (0, 0, 0), (1157, 0, 0), (0, 0, 0), (0, 0, 0), (1167, 0, 0), (0, 0, 0), (0, 0, 0), (1177, 0, 0), (0, 0, 0), (0, 0, 0), (0, 0, 0), (0, 0, 0), (0, 0, 0), (0, 0, 0), (0, 0, 0), (4142, 0, 0), (0, 0, 0), (0, 0, 0), (0, 0, 0), (4141, 0, 0), (0, 0, 0), (0, 0, 0), (1070, 0, 0), (0, 0, 0), (0, 0, 0), (0, 0, 0), (0, 0, 0), (0, 0, 0), (4106, 0, 0), (0, 0, 0), (0, 0, 0), (1070, 0, 0), (0, 0, 0), (0, 0, 0), (0, 0, 0), (0, 0, 0), (1157, 0, 0), (0, 0, 0), (0, 0, 0), (0, 0, 0), (0, 0, 0), (1167, 0, 0), (0, 0, 0), (0, 0, 0), (0, 0, 0), (0, 0, 0), (1177, 0, 0), (0, 0, 0), (0, 0, 0), (0, 0, 0), (0, 0, 0), (0, 0, 0), (0, 0, 0), (0, 0, 0), (0, 0, 0), (0, 0, 0), (0, 0, 0)] = true := mj_tab_f (by decide +kernel)
theorem ct_83 (G : mj_G) {h : mj_H} {f g : Nat} {d w : Int} {F : Fm} {N : Nat} (hr : isRr h 7 d w) (hf : isFm h f F) (hg : hK h g = 16) (hne : f ≠ g ∧ f ≠ 7 ∧ g ≠ 7) (hd : -1099511627776 < d ∧ d < 1099511627776) (hd0 : d ≠ 0) (hw : -1 ≤ w ∧ w < 2147483648) (ho : okF F) (hN : 0 < d → isRing d w F N) : mj_Ct G (mj_mt 83) 0 0 [.ref 7, .ref f, .ref g] h (fun o h' => (∃ v, o = .returned (some (.int v))) ∧ (∃ j, isFm h' f (itF d w j F) ∧ (d < 0 → j = 0)) ∧ Fr (fun a => a = f ∨ a = g) noT h h') := by
  obtain ⟨n1, n2, n3⟩ := hne
  refine mj_Ct_of mj_ok tb_83 rfl rfl (Nat.le_of_ble_eq_true rfl) (fun Run hR => ?_)
  have hok : ∀ i, (d < 0 → i = 0) → okF (itF d w i F) := by
    intro i hi
    rcases Int.lt_or_gt_of_ne hd0 with z | z
    · rw [hi z]
      exact ho
    · exact (hN z).1 i
  have r31e : ∀ (h' : mj_H) (mI zI : Int32) (x4 x5 x6 x7 x8 x9 x10 x12 x13 : Option Value) (j : Nat), zI = jI 0 → isFm h' f (itF d w j F) → (d < 0 → j = 0) → Fr (fun a => a = f ∨ a = g) noT h h' → Run 31 [some (.ref 7), some (.ref f), some (.ref g), some (.int mI), x4, x5, x6, x7, x8, x9, x10, some (.int zI), x12, x13] [] h' (0, 0) := by
    rintro h' mI zI x4 x5 x6 x7 x8 x9 x10 x12 x13 j rfl hf' hj FR
    refine hR 60 18 _ _ _ _ _ _ rfl ?_
    refine ⟨fun c => ?_, fun c => absurd rfl c⟩
    exact ⟨⟨_, rfl⟩, ⟨j, hf', hj⟩, FR⟩
  have r113 : ∀ (h' : mj_H) (mI : Int32) (x4 x5 x6 x7 x8 x9 x11 x12 x13 : Option Value) (cL : Int64) (j : Nat), isFm h' f (itF d w j F) → (d < 0 → j = 0) → Fr (fun a => a = f ∨ a = g) noT h h' → Run 113 [some (.ref 7), some (.ref f), some (.ref g), some (.int mI), x4, x5, x6, x7, x8, some (.long cL), none, x11, x12, x13] [] h' (0, 0) := by
    intro h' mI x4 x5 x6 x7 x8 x9 x11 x12 x13 cL j hf' hj FR
    refine hR 60 59 _ _ _ _ _ _ rfl ?_
    exact r31e h' _ _ _ _ _ _ _ _ _ _ _ j rfl hf' hj FR
  have step : ∀ (i j : Nat) (h' : mj_H) (mI zI : Int32) (x12 x13 : Option Value), (d < 0 → i = 0) → (d < 0 → j = 0) → (0 < d → i < N) → isFm h' g (itF d w i F) → isFm h' f (itF d w j F) → isRr h' 7 d w → Fr (fun a => a = f ∨ a = g) noT h h' → zI = jI 1 → (0 < d → i + 1 ≠ N → ∀ (j' : Nat) (h2 : mj_H) (mI zI : Int32) (x12 x13 : Option Value), isFm h2 g (itF d w (i + 1) F) → isFm h2 f (itF d w j' F) → isRr h2 7 d w → Fr (fun a => a = f ∨ a = g) noT h h2 → zI = jI 1 → Run 31 [some (.ref 7), some (.ref f), some (.ref g), some (.int mI), some (.ref f), some (.long (jL F.1)), none, some (.long (jL F.2.1)), none, some (.long (jL F.2.2)), none, some (.int zI), x12, x13] [] h2 (0, 0)) → Run 31 [some (.ref 7), some (.ref f), some (.ref g), some (.int mI), some (.ref f), some (.long (jL F.1)), none, some (.long (jL F.2.1)), none, some (.long (jL F.2.2)), none, some (.int zI), x12, x13] [] h' (0, 0) := by
    rintro i j h' mI zI x12 x13 hi0 hj0 hiN hg' hf' hr' FR rfl cont
    have r70 : ∀ (j' : Nat) (h2 : mj_H) (mI : Int32) (x11 x12 x13 : Option Value), (d < 0 → j' = 0) → (0 < d → isFm h2 g (itF d w (i + 1) F)) → isFm h2 f (itF d w j' F) → isRr h2 7 d w → Fr (fun a => a = f ∨ a = g) noT h h2 → Run 70 [some (.ref 7), some (.ref f), some (.ref g), some (.int mI), some (.ref f), some (.long (jL F.1)), none, some (.long (jL F.2.1)), none, some (.long (jL F.2.2)), none, x11, x12, x13] [] h2 (0, 0) := by
      intro j' h2 mI x11 x12 x13 hj' hg2 hf2 hr2 F2
      refine hR 60 37 _ _ _ _ _ _ rfl ?_
      refine ⟨hr2.1, ?_⟩
      rw [hr2.2.1]
      refine ⟨fun c => r113 h2 _ _ _ _ _ _ none _ _ _ _ j' hf2 hj' F2, fun c => ?_⟩
      simp (disch := omega) only [mj_lcm, jI_lt, jI_le, jI_eq, jL_lt, jL_le, jL_eq, jI_lt0, jI_0le, jI_0lt, jI_le0, jI_eq0, jL_eq0, jI_L, jI_add, jI_sub, jI_mul, jI_neg, jL_add, jL_sub, jL_mul, jL_neg, jL_I, jI_div, jI_mod, jL_div, jL_mod] at c
      have hd1 : 0 < d := by omega
      have hg3 := hg2 hd1
      obtain ⟨ok, N0, N1, N2⟩ := hN hd1
      have o1 := ok9 (ok (i + 1))
      have o2 := ok9 ho
      have r109 : i + 1 ≠ N → Run 109 [some (.ref 7), some (.ref f), some (.ref g), some (.int mI), some (.ref f), some (.long (jL F.1)), none, some (.long (jL F.2.1)), none, some (.long (jL F.2.2)), none, x11, x12, x13] [] h2 (0, 0) := by
        intro hne
        refine hR 60 57 _ _ _ _ _ _ rfl ?_
        exact cont hd1 hne j' h2 _ _ _ _ hg3 hf2 hr2 F2 rfl
      have hne : itF d w (i + 1) F ≠ F → i + 1 ≠ N := by
        intro z e
        exact z (by rw [e]; exact N1)
      refine ⟨hg3.1, ?_⟩
      rw [hg3.2.1]
      refine ⟨fun c1 => ⟨hg3.1, ?_⟩, fun c1 => ?_⟩
      · rw [hg3.2.2.1]
        refine ⟨fun c2 => ⟨hg3.1, ?_⟩, fun c2 => ?_⟩
        · rw [hg3.2.2.2]
          refine ⟨fun c3 => r113 h2 _ _ _ _ _ _ none _ _ _ _ j' hf2 hj' F2, fun c3 => ?_⟩
          simp (disch := omega) only [mj_lcm, jI_lt, jI_le, jI_eq, jL_lt, jL_le, jL_eq, jI_lt0, jI_0le, jI_0lt, jI_le0, jI_eq0, jL_eq0, jI_L, jI_add, jI_sub, jI_mul, jI_neg, jL_add, jL_sub, jL_mul, jL_neg, jL_I, jI_div, jI_mod, jL_div, jL_mod] at c3
          exact r109 (hne (fun z => c3 (by rw [z])))
        · simp (disch := omega) only [mj_lcm, jI_lt, jI_le, jI_eq, jL_lt, jL_le, jL_eq, jI_lt0, jI_0le, jI_0lt, jI_le0, jI_eq0, jL_eq0, jI_L, jI_add, jI_sub, jI_mul, jI_neg, jL_add, jL_sub, jL_mul, jL_neg, jL_I, jI_div, jI_mod, jL_div, jL_mod] at c2
          exact r109 (hne (fun z => c2 (by rw [z])))
      · simp (disch := omega) only [mj_lcm, jI_lt, jI_le, jI_eq, jL_lt, jL_le, jL_eq, jI_lt0, jI_0le, jI_0lt, jI_le0, jI_eq0, jL_eq0, jI_L, jI_add, jI_sub, jI_mul, jI_neg, jL_add, jL_sub, jL_mul, jL_neg, jL_I, jI_div, jI_mod, jL_div, jL_mod] at c1
        exact r109 (hne (fun z => c1 (by rw [z])))
    have r51 : ∀ (j' : Nat) (h2 : mj_H) (x11 : Option Value), (d < 0 → j' = 0) → isFm h2 g (itF d w i F) → isFm h2 f (itF d w j' F) → isRr h2 7 d w → Fr (fun a => a = f ∨ a = g) noT h h2 → Run 51 [some (.ref 7), some (.ref f), some (.ref g), some (.int mI), some (.ref f), some (.long (jL F.1)), none, some (.long (jL F.2.1)), none, some (.long (jL F.2.2)), none, some (.int (jI 1)), x12, x13] [] h2 (0, 0) := by
      intro j' h2 x11 hj' hg2 hf2 hr2 F2
      refine hR 60 27 _ _ _ _ _ _ rfl ?_
      refine ⟨hr2.1, ?_⟩
      rw [hr2.2.1]
      refine ⟨fun c => ?_, fun c => ?_⟩
      · simp (disch := omega) only [mj_lcm, jI_lt, jI_le, jI_eq, jL_lt, jL_le, jL_eq, jI_lt0, jI_0le, jI_0lt, jI_le0, jI_eq0, jL_eq0, jI_L, jI_add, jI_sub, jI_mul, jI_neg, jL_add, jL_sub, jL_mul, jL_neg, jL_I, jI_div, jI_mod, jL_div, jL_mod] at c
        exact r70 j' h2 _ _ _ _ hj' (fun z => by omega) hf2 hr2 F2
      · simp (disch := omega) only [mj_lcm, jI_lt, jI_le, jI_eq, jL_lt, jL_le, jL_eq, jI_lt0, jI_0le, jI_0lt, jI_le0, jI_eq0, jL_eq0, jI_L, jI_add, jI_sub, jI_mul, jI_neg, jL_add, jL_sub, jL_mul, jL_neg, jL_I, jI_div, jI_mod, jL_div, jL_mod] at c
        have hd1 : 0 < d := by omega
        refine ⟨hr2.1, jcallW (ct_27' G hr2 hg2 hd hw (hok i hi0)) ?_⟩
        have q : Fr (fun a => a = g) noT h2 (sFm h2 g (nx d w (itF d w i F))) := (Fr.refl (fun a => a = g) noT h2).sFm rfl _
        refine r70 j' _ _ _ _ _ hj' (fun _ => ?_) (hf2.F q n1) (hr2.F q (fun z => n3 z.symm)) (F2.trans (q.mono (fun _ z => Or.inr z) (fun _ z => z)))
        rw [itF_succ]
        exact isFm_sFm h2 hg2.1 _
    have o1 := ok9 (hok i hi0)
    have o2 := ok9 (hok j hj0)
    have c84 := ct_84 G hg' hf' (by omega) (by omega)
    refine hR 60 18 _ _ _ _ _ _ rfl ?_
    refine ⟨fun c => absurd c (by decide), fun c => ?_⟩
    refine ⟨hg'.1, jcall c84 ?_⟩
    by_cases hb : (itF d w i F).1 < (itF d w j F).1 ∨ ((itF d w i F).1 = (itF d w j F).1 ∧ (itF d w i F).2.1 < (itF d w j F).2.1)
    · rw [if_pos hb]
      refine ⟨fun c2 => absurd c2 (by decide), fun c2 => ?_⟩
      refine ⟨hf'.1, jcallV (ct_25 G hf'.1 hg'.1) ?_⟩
      have e1 : sF h' f (hJ h' g 0) (hJ h' g 1) (hJ h' g 2) = sFm h' f (itF d w i F) := by
        rw [hg'.2.1, hg'.2.2.1, hg'.2.2.2]
        rfl
      rw [e1]
      have q : Fr (fun a => a = f) noT h' (sFm h' f (itF d w i F)) := (Fr.refl (fun a => a = f) noT h').sFm rfl _
      exact r51 i _ none hi0 (hg'.F q (fun z => n1 z.symm)) (isFm_sFm h' hf'.1 _) (hr'.F q (fun z => n2 z.symm)) (FR.trans (q.mono (fun _ z => Or.inl z) (fun _ z => z)))
    · rw [if_neg hb]
      refine ⟨fun c2 => ?_, fun c2 => absurd rfl c2⟩
      exact r51 j h' none hj0 hg' hf' hr' FR
  have r31 : ∀ (t i j : Nat) (h' : mj_H) (mI zI : Int32) (x12 x13 : Option Value), (d < 0 → i = 0) → (d < 0 → j = 0) → (0 < d → i + (t + 1) = N) → isFm h' g (itF d w i F) → isFm h' f (itF d w j F) → isRr h' 7 d w → Fr (fun a => a = f ∨ a = g) noT h h' → zI = jI 1 → Run 31 [some (.ref 7), some (.ref f), some (.ref g), some (.int mI), some (.ref f), some (.long (jL F.1)), none, some (.long (jL F.2.1)), none, some (.long (jL F.2.2)), none, some (.int zI), x12, x13] [] h' (0, 0) := by
    intro t
    induction t with
    | zero =>
      intro i j h' mI zI x12 x13 hi0 hj0 hiN hg' hf' hr' FR hz
      exact step i j h' mI zI x12 x13 hi0 hj0 (fun z => by have := hiN z; omega) hg' hf' hr' FR hz (fun z hne => by have := hiN z; omega)
    | succ t ih =>
      intro i j h' mI zI x12 x13 hi0 hj0 hiN hg' hf' hr' FR hz
      exact step i j h' mI zI x12 x13 hi0 hj0 (fun z => by have := hiN z; omega) hg' hf' hr' FR hz (fun z hne j' h2 mI zI x12 x13 hg2 hf2 hr2 F2 hz2 => ih (i + 1) j' h2 mI zI x12 x13 (by omega) (by omega) (fun _ => by have := hiN z; omega) hg2 hf2 hr2 F2 hz2)
  have r22 : ∀ (h' : mj_H) (x9 x10 x11 x12 x13 : Option Value), isFm h' g F → isFm h' f F → isRr h' 7 d w → Fr (fun a => a = f ∨ a = g) noT h h' → Run 22 [some (.ref 7), some (.ref f), some (.ref g), some (.int (jI 0)), some (.ref f), some (.long (jL F.1)), none, some (.long (jL F.2.1)), none, x9, x10, x11, x12, x13] [] h' (0, 0) := by
    intro h' x9 x10 x11 x12 x13 hg' hf' hr' FR
    have key := r31 (N - 1) 0 0 h' (jI 0) (jI 1) x12 x13 (fun _ => rfl) (fun _ => rfl) (fun z => by have := (hN z).2.1; omega) hg' hf' hr' FR rfl
    rw [← hf'.2.2.2] at key
    refine hR 60 13 _ _ _ _ _ _ rfl ?_
    refine ⟨hf'.1, ?_⟩
    exact key
  have r10 : ∀ (h' : mj_H) (x5 x6 x7 x8 x9 x10 x11 x12 x13 : Option Value), isFm h' g F → isFm h' f F → isRr h' 7 d w → Fr (fun a => a = f ∨ a = g) noT h h' → Run 10 [some (.ref 7), some (.ref f), some (.ref g), some (.int (jI 0)), some (.ref f), x5, x6, x7, x8, x9, x10, x11, x12, x13] [] h' (0, 0) := by
    intro h' x5 x6 x7 x8 x9 x10 x11 x12 x13 hg' hf' hr' FR
    have key := r22 h' x9 x10 x11 x12 x13 hg' hf' hr' FR
    rw [← hf'.2.1, ← hf'.2.2.1] at key
    refine hR 60 7 _ _ _ _ _ _ rfl ?_
    refine ⟨hf'.1, hf'.1, ?_⟩
    exact key
  refine hR 60 0 _ _ _ _ _ _ rfl ?_
  refine ⟨hg, jcallV (ct_25 G hg hf.1) ?_⟩
  have e1 : sF h g (hJ h f 0) (hJ h f 1) (hJ h f 2) = sFm h g F := by
    rw [hf.2.1, hf.2.2.1, hf.2.2.2]
    rfl
  rw [e1]
  have q : Fr (fun a => a = g) noT h (sFm h g F) := (Fr.refl (fun a => a = g) noT h).sFm rfl _
  exact r10 _ _ _ _ _ _ _ _ _ _ (isFm_sFm h hg F) (hf.F q n1) (hr.F q (fun z => n3 z.symm)) (q.mono (fun _ z => Or.inr z) (fun _ z => z))
/-- FormHouse$Composer.settle(LFormHouse$Form;)I; cuts at [] -/
def cd_82 : List mj_E := [(0, false, .aload_n 0, 1, 0, 0, 0, 0, 0),
  (1, false, .getfield 29, 3, 9, 0, 2, 0, 0),
  (4, false, .aload_n 1, 1, 0, 0, 0, 0, 0),
  (5, false, .invokevirtual 33, 3, 76, 1, 3, 0, 0),
  (8, false, .istore_n 2, 1, 0, 0, 0, 0, 0),
  (9, false, .aload_n 0, 1, 0, 0, 0, 0, 0),
  (10, false, .getfield 29, 3, 9, 0, 2, 0, 0),
  (13, false, .aload_n 1, 1, 0, 0, 0, 0, 0),
  (14, false, .aload_n 0, 1, 0, 0, 0, 0, 0),
  (15, false, .getfield 26, 3, 9, 4, 2, 0, 0),
  (18, false, .invokevirtual 39, 3, 83, 2, 3, 0, 0),
  (21, false, .ireturn, 1, 0, 0, 0, 0, 0)]
def cx_82 : mj_X := (1, [], [])
theorem tb_82 : mj_tab (mj_mt 82) cx_82 cd_82 mj_mh [(0, 0, 0), (2051, 0, 0), (0, 0, 0), (4136, 0, 0), (0, 0, 0), (0, 0, 0), (2051, 0, 0), (0, 0, 0), (0, 0, 0), (2055, 0, 0), (4137, 0, 0), (0, 0, 0)] = true := mj_tab_f (by decide +kernel)
theorem ct_82 (G : mj_G) {h : mj_H} (L : isLay h) {f : Nat} {d w : Int} {F : Fm} {m N : Nat} (hr : isRr h 7 d w) (hf : isFm h f F) (hne : f ≠ 57 ∧ f ≠ 7) (hd : -1099511627776 < d ∧ d < 1099511627776) (hd0 : d ≠ 0) (hw : -1 ≤ w ∧ w < 2147483648) (ht : trm d w m F) (hm : m < 2147483648) (ho : okF (itF d w m F)) (hN : 0 < d → isRing d w (itF d w m F) N) : mj_Ct G (mj_mt 82) 0 0 [.ref 53, .ref f] h (fun o h' => (∃ v, o = .returned (some (.int v))) ∧ (∃ j, isFm h' f (itF d w j (itF d w m F)) ∧ (d < 0 → j = 0)) ∧ Fr (fun a => a = f ∨ a = 57) noT h h') := by
  refine mj_Ct_of mj_ok tb_82 rfl rfl (Nat.le_of_ble_eq_true rfl) (fun Run hR => ?_)
  refine hR 40 0 _ _ _ _ _ _ rfl ?_
  refine ⟨L.K 53 rfl, _, L.R 53 0 _ rfl, L.K 7 rfl, jcallP (ct_76 G hr hf (fun z => hne.2 z.symm) hd hw ht hm) ?_⟩
  rintro o h2 ⟨rfl, rfl⟩
  have q : Fr (fun a => a = f) noT h (sFm h f (itF d w m F)) := (Fr.refl (fun a => a = f) noT h).sFm rfl _
  have L1 := L.F q (fun _ z => z.elim)
  refine ⟨L1.K 53 rfl, _, L1.R 53 0 _ rfl, L1.K 53 rfl, _, L1.R 53 4 _ rfl, L1.K 7 rfl, jcallP (ct_83 G (hr.F q (fun z => hne.2 z.symm)) (isFm_sFm h hf.1 _) (L1.K 57 rfl) ⟨hne.1, hne.2, by decide⟩ hd hd0 hw ho hN) ?_⟩
  rintro o h3 ⟨⟨v, rfl⟩, p2, p3⟩
  exact ⟨⟨v, rfl⟩, p2, (q.mono (fun _ z => Or.inl z) (fun _ z => z)).trans p3⟩
