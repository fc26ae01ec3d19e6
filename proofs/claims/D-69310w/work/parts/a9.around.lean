/-! the house: once round the ring -/
/-- a reduced form's ring -/
def rnP (d w : Int) (r : Fm) (N : Nat) : Prop := okF r ∧ 0 < N ∧ (d < 0 → N = 1) ∧ (0 < d → isRing d w r N)
def mtM (d w : Int) (r : Fm) (T : List Tr) : Nat → Nat → Bool
  | 0 => fun _ => false
  | j + 1 => fun i => mtM d w r T j i || T[i]?.any (hitT (itF d w j r))
def mtV (d w : Int) (r : Fm) (T : List Tr) : Nat → Nat
  | 0 => 0
  | j + 1 => mtV d w r T j + T.countP (hitT (itF d w j r))
theorem mtM_iff {d w : Int} {r : Fm} {T : List Tr} {k : Nat} {t : Tr} (ht : T[k]? = some t) : ∀ N, mtM d w r T N k = true ↔ ∃ j, j < N ∧ hitT (itF d w j r) t = true
  | 0 => ⟨fun z => Bool.noConfusion (show false = true from z), fun ⟨j, h1, _⟩ => absurd h1 (by omega)⟩
  | N + 1 => by
    have ih := mtM_iff (d := d) (w := w) (r := r) ht N
    show (mtM d w r T N k || T[k]?.any (hitT (itF d w N r))) = true ↔ _
    rw [Bool.or_eq_true, ih, ht]
    constructor
    · rintro (⟨j, h1, h2⟩ | h1)
      · exact ⟨j, by omega, h2⟩
      · exact ⟨N, by omega, h1⟩
    · rintro ⟨j, h1, h2⟩
      by_cases e : j = N
      · subst e
        exact Or.inr h2
      · exact Or.inl ⟨j, by omega, h2⟩
theorem mtV_le (d w : Int) (r : Fm) (T : List Tr) {i : Nat} : ∀ {N : Nat}, i ≤ N → mtV d w r T i ≤ mtV d w r T N
  | 0, h => by rw [show i = 0 by omega]; exact Nat.le_refl _
  | N + 1, h => by
    by_cases e : i = N + 1
    · rw [e]
      exact Nat.le_refl _
    · have := mtV_le d w r T (i := i) (N := N) (by omega)
      show _ ≤ mtV d w r T N + _
      omega
theorem fm_ext {f g : Fm} (h : f.1 = g.1 ∧ f.2.1 = g.2.1 ∧ f.2.2 = g.2.2) : f = g := Prod.ext h.1 (Prod.ext h.2.1 h.2.2)
theorem ct_51' (G : mj_G) {h : mj_H} {f g : Nat} {a b : Fm} (hf : isFm h f a) (hg : isFm h g b) (ha : okF a) (hb : okF b) : mj_Ct G (mj_mt 51) 0 0 [.ref f, .ref g] h (jR (.int (jI (if a = b then 1 else 0))) h) := by
  have c := ct_51 G hf hg (ok9 ha) (ok9 hb)
  by_cases z : a = b
  · rw [if_pos z]
    rw [if_pos (by rw [z]; exact ⟨rfl, rfl, rfl⟩)] at c
    exact c
  · rw [if_neg z]
    rw [if_neg (fun y => z (fm_ext y))] at c
    exact c
theorem isRing.ok {d w : Int} {r : Fm} {N : Nat} (a : isRing d w r N) (i : Nat) : okF (itF d w i r) := a.1 i
abbrev l158 (t m : Int32) (x3 x4 : Option Value) : mj_Ls := [some (.ref 1), some (.int t), some (.int m), x3, x4]
abbrev sMe2 (a : Nat) : Prop := a = 112 ∨ inMt a
/-- FormHouse.around(Z)V; cuts at [11, 13, 21, 28, 39, 54, 68, 69, 73, 88, 103, 122] -/
def cl_158_2 : List mj_E := (100, false, .ifCond .le 21, 3, 57, 0, 0, 0, 0) ::
  (103, true, .aload_n 0, 1, 0, 0, 0, 0, 0) ::
  (104, false, .getfield 91, 3, 0, 12, 2, 0, 0) ::
  (107, false, .aload_n 0, 1, 0, 0, 0, 0, 0) ::
  (108, false, .getfield 81, 3, 0, 7, 2, 0, 0) ::
  (111, false, .invokevirtual 339, 3, 51, 1, 6, 0, 0) ::
  (114, false, .ifCond .ne 7, 3, 57, 0, 0, 0, 0) ::
  (117, false, .iconst 1, 1, 0, 0, 0, jI 1, 0) ::
  (118, false, .goto 4, 3, 58, 0, 0, 0, 0) ::
  (121, false, .iconst 0, 1, 0, 0, 0, jI 0, 0) ::
  (122, true, .istore_n 2, 1, 0, 0, 0, 0, 0) ::
  (123, false, .goto (-110), 3, 7, 0, 0, 0, 0) ::
  (126, false, .return_, 1, 0, 0, 0, 0, 0) ::
  []
def cl_158_1 : List mj_E := (50, false, .lcmp, 1, 0, 0, 0, 0, 0) ::
  (51, false, .ifCond .le 37, 3, 42, 0, 0, 0, 0) ::
  (54, true, .aload_n 0, 1, 0, 0, 0, 0, 0) ::
  (55, false, .getfield 24, 3, 0, 0, 2, 0, 0) ::
  (58, false, .getfield 30, 3, 1, 1, 2, 0, 0) ::
  (61, false, .aload_n 0, 1, 0, 0, 0, 0, 0) ::
  (62, false, .getfield 91, 3, 0, 12, 2, 0, 0) ::
  (65, false, .invokevirtual 331, 3, 27, 1, 3, 0, 0) ::
  (68, true, .lstore_n 3, 1, 0, 0, 0, 0, 0) ::
  (69, true, .iload_n 1, 1, 0, 0, 0, 0, 0) ::
  (70, false, .ifCond .eq 18, 3, 42, 0, 0, 0, 0) ::
  (73, true, .aload_n 0, 1, 0, 0, 0, 0, 0) ::
  (74, false, .getfield 97, 3, 0, 14, 2, 0, 0) ::
  (77, false, .lload_n 3, 1, 0, 0, 0, 0, 0) ::
  (78, false, .aload_n 0, 1, 0, 0, 0, 0, 0) ::
  (79, false, .getfield 24, 3, 0, 0, 2, 0, 0) ::
  (82, false, .getfield 289, 3, 1, 0, 2, 0, 0) ::
  (85, false, .invokevirtual 335, 3, 30, 2, 4, 0, 0) ::
  (88, true, .aload_n 0, 1, 0, 0, 0, 0, 0) ::
  (89, false, .getfield 24, 3, 0, 0, 2, 0, 0) ::
  (92, false, .getfield 30, 3, 1, 1, 2, 0, 0) ::
  (95, false, .getfield 173, 3, 3, 0, 1, 0, 0) ::
  (98, false, .lconst 0, 1, 0, 0, 0, 0, jL 0) ::
  (99, false, .lcmp, 1, 0, 0, 0, 0, 0) ::
  cl_158_2
def cl_158_0 : List mj_E := (0, false, .aload_n 0, 1, 0, 0, 0, 0, 0) ::
  (1, false, .getfield 91, 3, 0, 12, 2, 0, 0) ::
  (4, false, .aload_n 0, 1, 0, 0, 0, 0, 0) ::
  (5, false, .getfield 81, 3, 0, 7, 2, 0, 0) ::
  (8, false, .invokevirtual 272, 3, 25, 1, 6, 0, 0) ::
  (11, true, .iconst 1, 1, 0, 0, 0, jI 1, 0) ::
  (12, false, .istore_n 2, 1, 0, 0, 0, 0, 0) ::
  (13, true, .iload_n 2, 1, 0, 0, 0, 0, 0) ::
  (14, false, .ifCond .eq 112, 3, 60, 0, 0, 0, 0) ::
  (17, false, .iload_n 1, 1, 0, 0, 0, 0, 0) ::
  (18, false, .ifCond .eq 10, 3, 14, 0, 0, 0, 0) ::
  (21, true, .aload_n 0, 1, 0, 0, 0, 0, 0) ::
  (22, false, .invokevirtual 325, 3, 159, 0, 0, 0, 0) ::
  (25, false, .goto 14, 3, 19, 0, 0, 0, 0) ::
  (28, true, .aload_n 0, 1, 0, 0, 0, 0, 0) ::
  (29, false, .getfield 63, 3, 0, 4, 2, 0, 0) ::
  (32, false, .aload_n 0, 1, 0, 0, 0, 0, 0) ::
  (33, false, .getfield 91, 3, 0, 12, 2, 0, 0) ::
  (36, false, .invokevirtual 328, 3, 169, 1, 12, 0, 0) ::
  (39, true, .aload_n 0, 1, 0, 0, 0, 0, 0) ::
  (40, false, .getfield 24, 3, 0, 0, 2, 0, 0) ::
  (43, false, .getfield 30, 3, 1, 1, 2, 0, 0) ::
  (46, false, .getfield 173, 3, 3, 0, 1, 0, 0) ::
  (49, false, .lconst 0, 1, 0, 0, 0, 0, jL 0) ::
  cl_158_1
def cd_158 : List mj_E := cl_158_0
def cx_158 : mj_X := (0, [], [])
theorem tb_158 : mj_tab (mj_mt 158) cx_158 cd_158 mj_mh [(0, 0, 0), (4215, 0, 0), (0, 0, 0), (4210, 0, 0), (4187, 0, 0), (0, 0, 0), (0, 0, 0), (0, 0, 0), (0, 0, 0), (0, 0, 0), (0, 0, 0), (0, 0, 0), (6073, 0, 0), (0, 0, 0), (0, 0, 0), (4207, 0, 0), (0, 0, 0), (4215, 0, 0), (6117, 0, 0), (0, 0, 0), (4203, 0, 0), (1192, 0, 0), (1076, 0, 0), (0, 0, 0), (0, 0, 0), (0, 0, 0), (0, 0, 0), (4203, 0, 0), (1192, 0, 0), (0, 0, 0), (4215, 0, 0), (6121, 0, 0), (0, 0, 0), (0, 0, 0), (0, 0, 0), (0, 0, 0), (4217, 0, 0), (0, 0, 0), (0, 0, 0), (4203, 0, 0), (1190, 0, 0), (6122, 0, 0), (0, 0, 0), (4203, 0, 0), (1192, 0, 0), (1076, 0, 0), (0, 0, 0), (0, 0, 0), (0, 0, 0), (0, 0, 0), (4215, 0, 0), (0, 0, 0), (4210, 0, 0), (6123, 0, 0), (0, 0, 0), (0, 0, 0), (0, 0, 0), (0, 0, 0), (0, 0, 0), (0, 0, 0), (0, 0, 0)] = true := mj_tab_f (by decide +kernel)
theorem ct_158a (G : mj_G) {h : mj_H} (L : isLay h) {d w : Int} (hr : isRr h 7 d w) (hd : -1099511627776 < d ∧ d < 1099511627776) (hd0 : d ≠ 0) (hw : -1 ≤ w ∧ w < 2147483648) {r : Fm} {N : Nat} (h98 : isFm h 98 r) (hrn : rnP d w r N) {T : List Tr} (hT : isTr h T (fun _ => false) 0) (hbt : ∀ t, t ∈ T → bdT t) (hvb : mtV d w r T N ≤ 1073741824) : mj_Ct G (mj_mt 158) 0 0 [.ref 1, .int (jI 0)] h (fun o h' => o = .returned none ∧ isTr h' T (mtM d w r T N) (mtV d w r T N) ∧ Fr sMe2 noT h h') := by
  obtain ⟨hr0, hN, hn, hp⟩ := hrn
  have ok : ∀ {j : Nat}, (j = 0 ∨ 0 < d) → okF (itF d w j r) := by
    rintro j (rfl | z)
    · exact hr0
    · exact (hp z).1 j
  have ly : ∀ {h' : mj_H}, Fr sMe2 noT h h' → isLay h' := fun F => L.F F (fun a z => z.elim)
  have rr : ∀ {h' : mj_H}, Fr sMe2 noT h h' → isRr h' 7 d w := fun F => hr.F F (by omega)
  refine mj_Ct_of mj_ok tb_158 rfl rfl (Nat.le_of_ble_eq_true rfl) (fun Run hR => ?_)
  have fin : ∀ (h' : mj_H) (x3 x4 : Option Value), isTr h' T (mtM d w r T N) (mtV d w r T N) → Fr sMe2 noT h h' → Run 122 (l158 (jI 0) (jI 1) x3 x4) [.int (jI 0)] h' (0, 0) := by
    intro h' x3 x4 tr F
    have r13 : ∀ (x3 x4 : Option Value), Run 13 (l158 (jI 0) (jI 0) x3 x4) [] h' (0, 0) := by
      intro x3 x4
      refine hR 60 7 _ _ _ _ _ _ rfl ?_
      exact ⟨fun c => ⟨rfl, tr, F⟩, fun c => absurd rfl c⟩
    refine hR 60 58 _ _ _ _ _ _ rfl ?_
    exact r13 _ _
  have r13 : ∀ (p j : Nat) (mI : Int32) (h' : mj_H) (x3 x4 : Option Value), j + p = N → 0 < p → (j = 0 ∨ 0 < d) → isFm h' 112 (itF d w j r) → isTr h' T (mtM d w r T j) (mtV d w r T j) → Fr sMe2 noT h h' → mI = jI 1 → Run 13 (l158 (jI 0) mI x3 x4) [] h' (0, 0) := by
    intro p
    induction p with
    | zero =>
      intro j mI h' x3 x4 hj hp0
      omega
    | succ p ih =>
      rintro j mI h' x3 x4 hj hp0 hjd g tr F rfl
      have L' := ly F
      have okj := ok hjd
      have hvj := mtV_le d w r T (i := j) (N := N) (by omega)
      have more : ∀ (h4 : mj_H) (x3 x4 : Option Value), 0 < d → isFm h4 112 (itF d w (j + 1) r) → isTr h4 T (mtM d w r T (j + 1)) (mtV d w r T (j + 1)) → Fr sMe2 noT h h4 → Run 88 (l158 (jI 0) (jI 1) x3 x4) [] h4 (0, 0) := by
        intro h4 x3 x4 hdp g4 tr4 F4
        have L4 := ly F4
        have go : ∀ (x3 x4 : Option Value), 0 < p → Run 122 (l158 (jI 0) (jI 1) x3 x4) [.int (jI 1)] h4 (0, 0) := by
          intro x3 x4 hpp
          refine hR 60 58 _ _ _ _ _ _ rfl ?_
          exact ih (j + 1) _ h4 _ _ (by omega) hpp (Or.inr hdp) g4 tr4 F4 rfl
        have r103 : ∀ (x3 x4 : Option Value), Run 103 (l158 (jI 0) (jI 1) x3 x4) [] h4 (0, 0) := by
          intro x3 x4
          have c51 := ct_51' G g4 (h98.F F4 (by omega)) (ok (Or.inr hdp)) hr0
          refine hR 60 49 _ _ _ _ _ _ rfl ?_
          refine ⟨L4.K 1 rfl, _, L4.R 1 12 _ rfl, L4.K 1 rfl, _, L4.R 1 7 _ rfl, L4.K 112 rfl, jcall c51 ?_⟩
          obtain ⟨-, -, q3, q4⟩ := hp hdp
          by_cases z : itF d w (j + 1) r = r
          · rw [if_pos z]
            have e : j + 1 = N := by
              rcases Nat.lt_or_ge (j + 1) N with y | y
              · exact absurd z (q4 (j + 1) (by omega) y)
              · omega
            rw [e] at tr4
            exact ⟨fun c => absurd c (by decide), fun _ => fin h4 _ _ tr4 F4⟩
          · rw [if_neg z]
            refine ⟨fun _ => go _ _ ?_, fun c => absurd rfl c⟩
            rcases Nat.eq_zero_or_pos p with y | y
            · exfalso
              apply z
              rw [show j + 1 = N by omega]
              exact q3
            · exact y
        have e7 : hJ h4 7 0 = jL d := (rr F4).2.1
        refine hR 60 42 _ _ _ _ _ _ rfl ?_
        refine ⟨L4.K 1 rfl, _, L4.R 1 0 _ rfl, L4.K 2 rfl, _, L4.R 2 1 _ rfl, L4.K 7 rfl, fun c => ?_, fun c => r103 _ _⟩
        rw [e7] at c
        simp (disch := omega) only [mj_lcm, jI_lt, jI_le, jI_eq, jL_lt, jL_le, jL_eq, jI_lt0, jI_0le, jI_0lt, jI_le0, jI_eq0, jL_eq0, jI_L, jI_add, jI_sub, jI_mul, jI_neg, jL_add, jL_sub, jL_mul, jL_neg, jL_I, jI_div, jI_mod, jL_div, jL_mod] at c
        omega
      have r54 : ∀ (h4 : mj_H) (x3 x4 : Option Value), 0 < d → isFm h4 112 (itF d w j r) → isTr h4 T (mtM d w r T (j + 1)) (mtV d w r T (j + 1)) → Fr sMe2 noT h h4 → Run 54 (l158 (jI 0) (jI 1) x3 x4) [] h4 (0, 0) := by
        intro h4 x3 x4 hdp g4 tr4 F4
        have L4 := ly F4
        have c27 := ct_27' G (r := 7) (f := 112) (rr F4) g4 hd hw okj
        rw [← itF_succ] at c27
        have F5 : Fr (fun a => a = 112) noT h4 (sFm h4 112 (itF d w (j + 1) r)) := (Fr.refl (fun a => a = 112) noT h4).sFm rfl _
        have g5 := isFm_sFm h4 (L4.K 112 rfl) (itF d w (j + 1) r)
        have r69 : ∀ (kL : Int64), Run 69 (l158 (jI 0) (jI 1) (some (.long kL)) none) [] (sFm h4 112 (itF d w (j + 1) r)) (0, 0) := by
          intro kL
          refine hR 60 33 _ _ _ _ _ _ rfl ?_
          exact ⟨fun c => more _ _ _ hdp g5 (tr4.F F5 (fun x z => by omega)) (F4.trans (F5.mono (fun a z => Or.inl z) (fun _ z => z))), fun c => absurd rfl c⟩
        have r68 : ∀ (kL : Int64) (x3 x4 : Option Value), Run 68 (l158 (jI 0) (jI 1) x3 x4) [.long kL] (sFm h4 112 (itF d w (j + 1) r)) (0, 0) := by
          intro kL x3 x4
          refine hR 60 32 _ _ _ _ _ _ rfl ?_
          exact r69 _
        refine hR 60 26 _ _ _ _ _ _ rfl ?_
        exact ⟨L4.K 1 rfl, _, L4.R 1 0 _ rfl, L4.K 2 rfl, _, L4.R 2 1 _ rfl, L4.K 1 rfl, _, L4.R 1 12 _ rfl, L4.K 7 rfl, jcallW c27 (r68 _ _ _)⟩
      have r39 : ∀ (h4 : mj_H) (x3 x4 : Option Value), isFm h4 112 (itF d w j r) → isTr h4 T (mtM d w r T (j + 1)) (mtV d w r T (j + 1)) → Fr sMe2 noT h h4 → Run 39 (l158 (jI 0) (jI 1) x3 x4) [] h4 (0, 0) := by
        intro h4 x3 x4 g4 tr4 F4
        have L4 := ly F4
        have e7 : hJ h4 7 0 = jL d := (rr F4).2.1
        have r88 : d < 0 → ∀ (x3 x4 : Option Value), Run 88 (l158 (jI 0) (jI 1) x3 x4) [] h4 (0, 0) := by
          intro hdn x3 x4
          have e : j + 1 = N := by
            have := hn hdn
            omega
          rw [e] at tr4
          refine hR 60 42 _ _ _ _ _ _ rfl ?_
          refine ⟨L4.K 1 rfl, _, L4.R 1 0 _ rfl, L4.K 2 rfl, _, L4.R 2 1 _ rfl, L4.K 7 rfl, fun c => fin h4 _ _ tr4 F4, fun c => ?_⟩
          rw [e7] at c
          simp (disch := omega) only [mj_lcm, jI_lt, jI_le, jI_eq, jL_lt, jL_le, jL_eq, jI_lt0, jI_0le, jI_0lt, jI_le0, jI_eq0, jL_eq0, jI_L, jI_add, jI_sub, jI_mul, jI_neg, jL_add, jL_sub, jL_mul, jL_neg, jL_I, jI_div, jI_mod, jL_div, jL_mod] at c
          omega
        refine hR 60 19 _ _ _ _ _ _ rfl ?_
        refine ⟨L4.K 1 rfl, _, L4.R 1 0 _ rfl, L4.K 2 rfl, _, L4.R 2 1 _ rfl, L4.K 7 rfl, fun c => ?_, fun c => ?_⟩
        · rw [e7] at c
          simp (disch := omega) only [mj_lcm, jI_lt, jI_le, jI_eq, jL_lt, jL_le, jL_eq, jI_lt0, jI_0le, jI_0lt, jI_le0, jI_eq0, jL_eq0, jI_L, jI_add, jI_sub, jI_mul, jI_neg, jL_add, jL_sub, jL_mul, jL_neg, jL_I, jI_div, jI_mod, jL_div, jL_mod] at c
          exact r88 (by omega) _ _
        · rw [e7] at c
          simp (disch := omega) only [mj_lcm, jI_lt, jI_le, jI_eq, jL_lt, jL_le, jL_eq, jI_lt0, jI_0le, jI_0lt, jI_le0, jI_eq0, jL_eq0, jI_L, jI_add, jI_sub, jI_mul, jI_neg, jL_add, jL_sub, jL_mul, jL_neg, jL_I, jI_div, jI_mod, jL_div, jL_mod] at c
          exact r54 h4 _ _ (by omega) g4 tr4 F4
      have r28 : ∀ (x3 x4 : Option Value), Run 28 (l158 (jI 0) (jI 1) x3 x4) [] h' (0, 0) := by
        intro x3 x4
        have c169 := ct_169 G L' tr hbt (by omega) (c := 112) g (by omega) ⟨⟨(ok9 okj).1, (ok9 okj).2.1⟩, (ok9 okj).2.2.1, (ok9 okj).2.2.2.1⟩
        refine hR 60 14 _ _ _ _ _ _ rfl ?_
        refine ⟨L'.K 1 rfl, _, L'.R 1 4 _ rfl, L'.K 1 rfl, _, L'.R 1 12 _ rfl, L'.K 69 rfl, jcallP c169 ?_⟩
        rintro o h4 ⟨rfl, tr4, F4⟩
        exact r39 h4 _ _ (g.F F4 (by omega)) tr4 (F.trans (F4.mono (fun a z => Or.inr z) (fun _ z => z)))
      refine hR 60 7 _ _ _ _ _ _ rfl ?_
      exact ⟨fun c => absurd c (by decide), fun _ => ⟨fun _ => r28 _ _, fun c => absurd rfl c⟩⟩
  have r11 : ∀ (h' : mj_H) (x2 x3 x4 : Option Value), isFm h' 112 r → isTr h' T (fun _ => false) 0 → Fr sMe2 noT h h' → Run 11 [some (.ref 1), some (.int (jI 0)), x2, x3, x4] [] h' (0, 0) := by
    intro h' x2 x3 x4 g tr F
    refine hR 60 5 _ _ _ _ _ _ rfl ?_
    exact r13 N 0 _ h' _ _ (by omega) hN (Or.inl rfl) g tr F rfl
  refine hR 60 0 _ _ _ _ _ _ rfl ?_
  refine ⟨L.K 1 rfl, _, L.R 1 12 _ rfl, L.K 1 rfl, _, L.R 1 7 _ rfl, L.K 112 rfl, jcallV (ct_25 G (L.K 112 rfl) (L.K 98 rfl)) ?_⟩
  rw [h98.2.1, h98.2.2.1, h98.2.2.2]
  have F5 : Fr (fun a => a = 112) noT h (sFm h 112 r) := (Fr.refl (fun a => a = 112) noT h).sFm rfl _
  exact r11 (sFm h 112 r) _ _ _ (isFm_sFm h (L.K 112 rfl) r) (hT.F F5 (fun x z => by omega)) (F5.mono (fun a z => Or.inl z) (fun _ z => z))
theorem itM_succ (d w : Int) (m : mxI) (f : Fm) : ∀ (n : Nat), itM d w (n + 1) f m = stM (nkE d w (itF d w n f).2.1 (itF d w n f).2.2) (itM d w n f m) := by
  intro n
  induction n generalizing f m with
  | zero => rfl
  | succ n ih => exact ih (stM (nkE d w f.2.1 f.2.2) m) (nx d w f)
abbrev sAr (a : Nat) : Prop := a = 112 ∨ sTd a ∨ inS 114 a
abbrev tAr (a : Nat) : Prop := a = 114
/-- the steps of the path round the ring are small -/
def pbP (d w : Int) (r : Fm) (m0 : mxI) (N : Nat) : Prop := 0 < d → ∀ j, j < N → bdM (nkE d w (itF d w j r).2.1 (itF d w j r).2.2) (itM d w j r m0) ∧ -9223372036854775808 < nkE d w (itF d w j r).2.1 (itF d w j r).2.2 ∧ nkE d w (itF d w j r).2.1 (itF d w j r).2.2 < 9223372036854775808
theorem ct_158b (G : mj_G) {h : mj_H} (L : isLay h) {d w : Int} (hr : isRr h 7 d w) (hd : -1099511627776 < d ∧ d < 1099511627776) (hd0 : d ≠ 0) (hw : -1 ≤ w ∧ w < 2147483648) {r : Fm} {N : Nat} (h98 : isFm h 98 r) (hrn : rnP d w r N) {T : List Tr} {M : Nat → Bool} {v : Nat} (hT : isTr h T M v) (hbt : ∀ t, t ∈ T → bdT t ∧ (-2147483648 ≤ t.1 ∧ t.1 < 2147483648)) (hcap : mCt M T.length ≤ 256) {m0 : mxI} (hm : isM h 114 m0) (hpb : pbP d w r m0 N) {va vb vc vd : Int} (wa : isW h 34 va) (wb : isW h 36 vb) (wc : isW h 38 vc) (wd : isW h 40 vd) {zf : Nat → xI} (hz : ∀ j, j < N → ∀ k t, T[k]? = some t → M k = true → hitT (itF d w j r) t = true → tlP (itM d w j r m0) va vb vc vd t (zf k)) : mj_Ct G (mj_mt 158) 0 0 [.ref 1, .int (jI 1)] h (fun o h' => o = .returned none ∧ (∀ k t, T[k]? = some t → M k = true → (∃ j, j < N ∧ hitT (itF d w j r) t = true) → tdP M zf h' k t) ∧ (isW h' 36 vb ∧ isW h' 38 vc) ∧ isM0 h' 114 ∧ Fr sAr tAr h h') := by
  obtain ⟨hr0, hN, hn, hp⟩ := hrn
  have ok : ∀ {j : Nat}, (j = 0 ∨ 0 < d) → okF (itF d w j r) := by
    rintro j (rfl | z)
    · exact hr0
    · exact (hp z).1 j
  have ly : ∀ {h' : mj_H}, Fr sAr tAr h h' → isLay h' := fun F => L.F F (fun a z => by omega)
  have rr : ∀ {h' : mj_H}, Fr sAr tAr h h' → isRr h' 7 d w := fun F => hr.F F (by omega)
  have tr : ∀ {h' : mj_H}, Fr sAr tAr h h' → isTr h' T M v := fun F => hT.F F (fun x z => by omega)
  refine mj_Ct_of mj_ok tb_158 rfl rfl (Nat.le_of_ble_eq_true rfl) (fun Run hR => ?_)
  have fin : ∀ (h' : mj_H) (x3 x4 : Option Value), (∀ k t, T[k]? = some t → M k = true → (∃ j, j < N ∧ hitT (itF d w j r) t = true) → tdP M zf h' k t) → (isW h' 36 vb ∧ isW h' 38 vc) → isM0 h' 114 → Fr sAr tAr h h' → Run 122 (l158 (jI 1) (jI 1) x3 x4) [.int (jI 0)] h' (0, 0) := by
    intro h' x3 x4 td ws m9 F
    have r13 : ∀ (x3 x4 : Option Value), Run 13 (l158 (jI 1) (jI 0) x3 x4) [] h' (0, 0) := by
      intro x3 x4
      refine hR 60 7 _ _ _ _ _ _ rfl ?_
      exact ⟨fun c => ⟨rfl, td, ws, m9, F⟩, fun c => absurd rfl c⟩
    refine hR 60 58 _ _ _ _ _ _ rfl ?_
    exact r13 _ _
  have tdF : ∀ {S T' : Nat → Prop} {h1 h2 : mj_H} {k : Nat} {t : Tr}, Fr S T' h1 h2 → (∀ x, S x → x = 112 ∨ inS 114 x) → (∀ x, T' x → x = 114) → mCt M k < 256 → tdP M zf h1 k t → tdP M zf h2 k t := by
    rintro S T' h1 h2 k t Fx hs ht hk ⟨c1, c2, c3⟩
    refine ⟨(Fx.I (fun z => by have := hs _ z; omega) _).trans c1, (Fx.I (fun z => by have := hs _ z; omega) _).trans c2, c3.F Fx (fun x h3 h4 z => ?_) (fun x h3 h4 z => ?_)⟩
    · have := hs _ z
      omega
    · have := ht _ z
      omega
  have lt256 : ∀ {k : Nat} {t : Tr}, T[k]? = some t → M k = true → mCt M k < 256 := fun hk hM => by
    have := mCt_lt (lt_of_some hk) hM
    omega
  have r13 : ∀ (p j : Nat) (mI : Int32) (h' : mj_H) (x3 x4 : Option Value), j + p = N → 0 < p → (j = 0 ∨ 0 < d) → isFm h' 112 (itF d w j r) → isM h' 114 (itM d w j r m0) → (∀ k t, T[k]? = some t → M k = true → (∃ i, i < j ∧ hitT (itF d w i r) t = true) → tdP M zf h' k t) → (isW h' 36 vb ∧ isW h' 38 vc) → Fr sAr tAr h h' → mI = jI 1 → Run 13 (l158 (jI 1) mI x3 x4) [] h' (0, 0) := by
    intro p
    induction p with
    | zero =>
      intro j mI h' x3 x4 hj hp0
      omega
    | succ p ih =>
      rintro j mI h' x3 x4 hj hp0 hjd g mm td ws F rfl
      have L' := ly F
      have okj := ok hjd
      have more : ∀ (h4 : mj_H) (x3 x4 : Option Value), 0 < d → isFm h4 112 (itF d w (j + 1) r) → isM h4 114 (itM d w (j + 1) r m0) → (∀ k t, T[k]? = some t → M k = true → (∃ i, i < j + 1 ∧ hitT (itF d w i r) t = true) → tdP M zf h4 k t) → (isW h4 36 vb ∧ isW h4 38 vc) → Fr sAr tAr h h4 → Run 88 (l158 (jI 1) (jI 1) x3 x4) [] h4 (0, 0) := by
        intro h4 x3 x4 hdp g4 m4 td4 ws4 F4
        have L4 := ly F4
        have go : ∀ (x3 x4 : Option Value), 0 < p → Run 122 (l158 (jI 1) (jI 1) x3 x4) [.int (jI 1)] h4 (0, 0) := by
          intro x3 x4 hpp
          refine hR 60 58 _ _ _ _ _ _ rfl ?_
          exact ih (j + 1) _ h4 _ _ (by omega) hpp (Or.inr hdp) g4 m4 td4 ws4 F4 rfl
        have r103 : ∀ (x3 x4 : Option Value), Run 103 (l158 (jI 1) (jI 1) x3 x4) [] h4 (0, 0) := by
          intro x3 x4
          have c51 := ct_51' G g4 (h98.F F4 (by omega)) (ok (Or.inr hdp)) hr0
          refine hR 60 49 _ _ _ _ _ _ rfl ?_
          refine ⟨L4.K 1 rfl, _, L4.R 1 12 _ rfl, L4.K 1 rfl, _, L4.R 1 7 _ rfl, L4.K 112 rfl, jcall c51 ?_⟩
          obtain ⟨-, -, q3, q4⟩ := hp hdp
          by_cases z : itF d w (j + 1) r = r
          · rw [if_pos z]
            have e : j + 1 = N := by
              rcases Nat.lt_or_ge (j + 1) N with y | y
              · exact absurd z (q4 (j + 1) (by omega) y)
              · omega
            rw [e] at td4
            exact ⟨fun c => absurd c (by decide), fun _ => fin h4 _ _ td4 ws4 m4.z F4⟩
          · rw [if_neg z]
            refine ⟨fun _ => go _ _ ?_, fun c => absurd rfl c⟩
            rcases Nat.eq_zero_or_pos p with y | y
            · exfalso
              apply z
              rw [show j + 1 = N by omega]
              exact q3
            · exact y
        have e7 : hJ h4 7 0 = jL d := (rr F4).2.1
        refine hR 60 42 _ _ _ _ _ _ rfl ?_
        refine ⟨L4.K 1 rfl, _, L4.R 1 0 _ rfl, L4.K 2 rfl, _, L4.R 2 1 _ rfl, L4.K 7 rfl, fun c => ?_, fun c => r103 _ _⟩
        rw [e7] at c
        simp (disch := omega) only [mj_lcm, jI_lt, jI_le, jI_eq, jL_lt, jL_le, jL_eq, jI_lt0, jI_0le, jI_0lt, jI_le0, jI_eq0, jL_eq0, jI_L, jI_add, jI_sub, jI_mul, jI_neg, jL_add, jL_sub, jL_mul, jL_neg, jL_I, jI_div, jI_mod, jL_div, jL_mod] at c
        omega
      have r54 : ∀ (h4 : mj_H) (x3 x4 : Option Value), 0 < d → isFm h4 112 (itF d w j r) → isM h4 114 (itM d w j r m0) → (∀ k t, T[k]? = some t → M k = true → (∃ i, i < j + 1 ∧ hitT (itF d w i r) t = true) → tdP M zf h4 k t) → (isW h4 36 vb ∧ isW h4 38 vc) → Fr sAr tAr h h4 → Run 54 (l158 (jI 1) (jI 1) x3 x4) [] h4 (0, 0) := by
        intro h4 x3 x4 hdp g4 m4 td4 ⟨wb4, wc4⟩ F4
        have L4 := ly F4
        obtain ⟨k, hk⟩ : ∃ k, k = nkE d w (itF d w j r).2.1 (itF d w j r).2.2 := ⟨_, rfl⟩
        obtain ⟨pb1, pb2, pb3⟩ := hpb hdp j (by omega)
        have c27 := ct_27' G (r := 7) (f := 112) (rr F4) g4 hd hw okj
        have ems := itM_succ d w m0 r j
        rw [← hk] at pb1 pb2 pb3 c27 ems
        rw [← itF_succ] at c27
        have F5 : Fr (fun a => a = 112) noT h4 (sFm h4 112 (itF d w (j + 1) r)) := (Fr.refl (fun a => a = 112) noT h4).sFm rfl _
        have g5 := isFm_sFm h4 (L4.K 112 rfl) (itF d w (j + 1) r)
        generalize sFm h4 112 (itF d w (j + 1) r) = h5 at F5 g5 c27
        have L5 := L4.F F5 (fun _ z => z.elim)
        have r73 : Run 73 (l158 (jI 1) (jI 1) (some (.long (jL k))) none) [] h5 (0, 0) := by
          have c30 := ct_30 G (M := 114) L5.Rk (m4.F F5 (by omega) (fun _ _ z => z)) pb1 pb2 pb3
          refine hR 60 35 _ _ _ _ _ _ rfl ?_
          refine ⟨L5.K 1 rfl, _, L5.R 1 14 _ rfl, L5.K 1 rfl, _, L5.R 1 0 _ rfl, L5.K 2 rfl, _, L5.R 2 0 _ rfl, L5.K 114 rfl, jcallP c30 ?_⟩
          rintro o h6 ⟨rfl, m6, F6⟩
          rw [← ems] at m6
          exact more h6 _ _ hdp (g5.F F6 (by omega)) m6 (fun k t hk hM he => tdF F6 (fun x z => Or.inr z) (fun x z => z) (lt256 hk hM) (tdF F5 (fun x z => Or.inl z) (fun _ z => z.elim) (lt256 hk hM) (td4 k t hk hM he))) ⟨(wb4.F F5 (by decide) (by decide) (fun z => z)).F F6 (by omega) (by omega) (by omega), (wc4.F F5 (by decide) (by decide) (fun z => z)).F F6 (by omega) (by omega) (by omega)⟩ ((F4.trans (F5.mono (fun a z => Or.inl z) (fun _ z => z.elim))).trans (F6.mono (fun a z => Or.inr (Or.inr z)) (fun _ z => z)))
        have r69 : Run 69 (l158 (jI 1) (jI 1) (some (.long (jL k))) none) [] h5 (0, 0) := by
          refine hR 60 33 _ _ _ _ _ _ rfl ?_
          exact ⟨fun c => absurd c (by decide), fun _ => r73⟩
        have r68 : ∀ (x3 x4 : Option Value), Run 68 (l158 (jI 1) (jI 1) x3 x4) [.long (jL k)] h5 (0, 0) := by
          intro x3 x4
          refine hR 60 32 _ _ _ _ _ _ rfl ?_
          exact r69
        refine hR 60 26 _ _ _ _ _ _ rfl ?_
        exact ⟨L4.K 1 rfl, _, L4.R 1 0 _ rfl, L4.K 2 rfl, _, L4.R 2 1 _ rfl, L4.K 1 rfl, _, L4.R 1 12 _ rfl, L4.K 7 rfl, jcallW c27 (r68 _ _)⟩
      have r39 : ∀ (h4 : mj_H) (x3 x4 : Option Value), isFm h4 112 (itF d w j r) → isM h4 114 (itM d w j r m0) → (∀ k t, T[k]? = some t → M k = true → (∃ i, i < j + 1 ∧ hitT (itF d w i r) t = true) → tdP M zf h4 k t) → (isW h4 36 vb ∧ isW h4 38 vc) → Fr sAr tAr h h4 → Run 39 (l158 (jI 1) (jI 1) x3 x4) [] h4 (0, 0) := by
        intro h4 x3 x4 g4 m4 td4 ws4 F4
        have L4 := ly F4
        have e7 : hJ h4 7 0 = jL d := (rr F4).2.1
        have r88 : d < 0 → ∀ (x3 x4 : Option Value), Run 88 (l158 (jI 1) (jI 1) x3 x4) [] h4 (0, 0) := by
          intro hdn x3 x4
          have e : j + 1 = N := by
            have := hn hdn
            omega
          rw [e] at td4
          refine hR 60 42 _ _ _ _ _ _ rfl ?_
          refine ⟨L4.K 1 rfl, _, L4.R 1 0 _ rfl, L4.K 2 rfl, _, L4.R 2 1 _ rfl, L4.K 7 rfl, fun c => fin h4 _ _ td4 ws4 m4.z F4, fun c => ?_⟩
          rw [e7] at c
          simp (disch := omega) only [mj_lcm, jI_lt, jI_le, jI_eq, jL_lt, jL_le, jL_eq, jI_lt0, jI_0le, jI_0lt, jI_le0, jI_eq0, jL_eq0, jI_L, jI_add, jI_sub, jI_mul, jI_neg, jL_add, jL_sub, jL_mul, jL_neg, jL_I, jI_div, jI_mod, jL_div, jL_mod] at c
          omega
        refine hR 60 19 _ _ _ _ _ _ rfl ?_
        refine ⟨L4.K 1 rfl, _, L4.R 1 0 _ rfl, L4.K 2 rfl, _, L4.R 2 1 _ rfl, L4.K 7 rfl, fun c => ?_, fun c => ?_⟩
        · rw [e7] at c
          simp (disch := omega) only [mj_lcm, jI_lt, jI_le, jI_eq, jL_lt, jL_le, jL_eq, jI_lt0, jI_0le, jI_0lt, jI_le0, jI_eq0, jL_eq0, jI_L, jI_add, jI_sub, jI_mul, jI_neg, jL_add, jL_sub, jL_mul, jL_neg, jL_I, jI_div, jI_mod, jL_div, jL_mod] at c
          exact r88 (by omega) _ _
        · rw [e7] at c
          simp (disch := omega) only [mj_lcm, jI_lt, jI_le, jI_eq, jL_lt, jL_le, jL_eq, jI_lt0, jI_0le, jI_0lt, jI_le0, jI_eq0, jL_eq0, jI_L, jI_add, jI_sub, jI_mul, jI_neg, jL_add, jL_sub, jL_mul, jL_neg, jL_I, jI_div, jI_mod, jL_div, jL_mod] at c
          exact r54 h4 _ _ (by omega) g4 m4 td4 ws4 F4
      have r21 : ∀ (x3 x4 : Option Value), Run 21 (l158 (jI 1) (jI 1) x3 x4) [] h' (0, 0) := by
        intro x3 x4
        have c159 := ct_159 G L' (tr F) hbt hcap g ⟨⟨(ok9 okj).1, (ok9 okj).2.1⟩, (ok9 okj).2.2.1, (ok9 okj).2.2.2.1⟩ mm (wa.F F (by omega) (by omega) (by omega)) ws.1 ws.2 (wd.F F (by omega) (by omega) (by omega)) (zf := zf) (hz j (by omega))
        refine hR 60 11 _ _ _ _ _ _ rfl ?_
        refine ⟨L'.K 1 rfl, jcallP c159 ?_⟩
        rintro o h4 ⟨rfl, a1, a2, ws4, F4⟩
        refine r39 h4 _ _ (g.F F4 (by omega)) (mm.F F4 (by omega) (fun _ _ z => z)) (fun k t hk hM he => ?_) ws4 (F.trans (F4.mono (fun a z => Or.inr (Or.inl z)) (fun _ z => z.elim)))
        by_cases z : hitT (itF d w j r) t = true
        · exact a1 k t hk hM z
        · obtain ⟨i, i1, i2⟩ := he
          refine a2 k t hk hM z (td k t hk hM ⟨i, ?_, i2⟩)
          rcases Nat.lt_or_ge i j with y | y
          · exact y
          · rw [show i = j by omega] at i2
            exact absurd i2 z
      refine hR 60 7 _ _ _ _ _ _ rfl ?_
      exact ⟨fun c => absurd c (by decide), fun _ => ⟨fun c => absurd c (by decide), fun _ => r21 _ _⟩⟩
  have r11 : ∀ (h' : mj_H) (x2 x3 x4 : Option Value), isFm h' 112 r → isM h' 114 m0 → (isW h' 36 vb ∧ isW h' 38 vc) → Fr sAr tAr h h' → Run 11 [some (.ref 1), some (.int (jI 1)), x2, x3, x4] [] h' (0, 0) := by
    intro h' x2 x3 x4 g mm ws F
    refine hR 60 5 _ _ _ _ _ _ rfl ?_
    exact r13 N 0 _ h' _ _ (by omega) hN (Or.inl rfl) g mm (fun k t _ _ ⟨i, h1, _⟩ => absurd h1 (by omega)) ws F rfl
  refine hR 60 0 _ _ _ _ _ _ rfl ?_
  refine ⟨L.K 1 rfl, _, L.R 1 12 _ rfl, L.K 1 rfl, _, L.R 1 7 _ rfl, L.K 112 rfl, jcallV (ct_25 G (L.K 112 rfl) (L.K 98 rfl)) ?_⟩
  rw [h98.2.1, h98.2.2.1, h98.2.2.2]
  have F5 : Fr (fun a => a = 112) noT h (sFm h 112 r) := (Fr.refl (fun a => a = 112) noT h).sFm rfl _
  exact r11 (sFm h 112 r) _ _ _ (isFm_sFm h (L.K 112 rfl) r) (hm.F F5 (by omega) (fun _ _ z => z)) ⟨wb.F F5 (by decide) (by decide) (fun z => z), wc.F F5 (by decide) (by decide) (fun z => z)⟩ (F5.mono (fun a z => Or.inl z) (fun _ z => z.elim))
