/-! the house: solve -/
abbrev sSv (a : Nat) : Prop := a = 1 ∨ (69 ≤ a ∧ a ≤ 84) ∨ a = 112 ∨ sTd a ∨ inS 114 a
abbrev tSv (a : Nat) : Prop := a = 73 ∨ a = 114
abbrev sGa (a : Nat) : Prop := (69 ≤ a ∧ a ≤ 84) ∨ a = 112
abbrev iSv (k : Nat) : Prop := k = 18 ∨ k = 19
/-- what is to be known of a number's trials -/
def slP (d w : Int) (f r : Fm) (s1 N : Nat) (va vb vc vd : Int) (n : Int) (zf : Nat → xI) : Prop := okT d w n ∧ (∀ t, t ∈ tAll d w n → bdT t ∧ (-2147483648 ≤ t.1 ∧ t.1 < 2147483648)) ∧ mtV d w r (tAll d w n) N ≤ 1073741824 ∧ (mtV d w r (tAll d w n) N ≤ 256 → mCt (mtM d w r (tAll d w n) N) (tAll d w n).length ≤ 256 ∧ pbP d w r (itM d w s1 f (1, 0, 0, 1)) N ∧ ∀ j, j < N → ∀ k t, (tAll d w n)[k]? = some t → mtM d w r (tAll d w n) N k = true → hitT (itF d w j r) t = true → tlP (itM d w j r (itM d w s1 f (1, 0, 0, 1))) va vb vc vd t (zf k))
/-- FormHouse.solve(I)I; cuts at [4, 7, 22, 27, 40, 48, 53, 64, 71, 82, 111, 112, 117] -/
def cl_137_2 : List mj_E := (102, false, .getfield 24, 3, 0, 0, 2, 0, 0) ::
  (105, false, .getfield 289, 3, 1, 0, 2, 0, 0) ::
  (108, false, .invokevirtual 293, 3, 95, 4, 4, 0, 0) ::
  (111, true, .istore_n 2, 1, 0, 0, 0, 0, 0) ::
  (112, true, .aload_n 0, 1, 0, 0, 0, 0, 0) ::
  (113, false, .iconst 1, 1, 0, 0, 0, jI 1, 0) ::
  (114, false, .invokevirtual 316, 3, 158, 1, 0, 0, 0) ::
  (117, true, .aload_n 0, 1, 0, 0, 0, 0, 0) ::
  (118, false, .getfield 215, 3, 0, 18, 0, 0, 0) ::
  (121, false, .ireturn, 1, 0, 0, 0, 0, 0) ::
  []
def cl_137_1 : List mj_E := (50, false, .putfield 150, 3, 0, 19, 0, 0, 0) ::
  (53, true, .aload_n 0, 1, 0, 0, 0, 0, 0) ::
  (54, false, .aload_n 0, 1, 0, 0, 0, 0, 0) ::
  (55, false, .getfield 63, 3, 0, 4, 2, 0, 0) ::
  (58, false, .getfield 319, 3, 12, 11, 0, 0, 0) ::
  (61, false, .putfield 215, 3, 0, 18, 0, 0, 0) ::
  (64, true, .aload_n 0, 1, 0, 0, 0, 0, 0) ::
  (65, false, .getfield 97, 3, 0, 14, 2, 0, 0) ::
  (68, false, .invokevirtual 283, 3, 26, 0, 4, 0, 0) ::
  (71, true, .aload_n 0, 1, 0, 0, 0, 0, 0) ::
  (72, false, .getfield 91, 3, 0, 12, 2, 0, 0) ::
  (75, false, .aload_n 0, 1, 0, 0, 0, 0, 0) ::
  (76, false, .getfield 77, 3, 0, 6, 2, 0, 0) ::
  (79, false, .invokevirtual 272, 3, 25, 1, 6, 0, 0) ::
  (82, true, .aload_n 0, 1, 0, 0, 0, 0, 0) ::
  (83, false, .getfield 97, 3, 0, 14, 2, 0, 0) ::
  (86, false, .aload_n 0, 1, 0, 0, 0, 0, 0) ::
  (87, false, .getfield 91, 3, 0, 12, 2, 0, 0) ::
  (90, false, .aload_n 0, 1, 0, 0, 0, 0, 0) ::
  (91, false, .getfield 81, 3, 0, 7, 2, 0, 0) ::
  (94, false, .aload_n 0, 1, 0, 0, 0, 0, 0) ::
  (95, false, .getfield 24, 3, 0, 0, 2, 0, 0) ::
  (98, false, .getfield 30, 3, 1, 1, 2, 0, 0) ::
  (101, false, .aload_n 0, 1, 0, 0, 0, 0, 0) ::
  cl_137_2
def cl_137_0 : List mj_E := (0, false, .iload_n 1, 1, 0, 0, 0, 0, 0) ::
  (1, false, .invokestatic 309, 3, 138, 1, 0, 0, 0) ::
  (4, true, .invokestatic 166, 3, 100, 1, 0, 0, 0) ::
  (7, true, .aload_n 0, 1, 0, 0, 0, 0, 0) ::
  (8, false, .getfield 63, 3, 0, 4, 2, 0, 0) ::
  (11, false, .iload_n 1, 1, 0, 0, 0, 0, 0) ::
  (12, false, .aload_n 0, 1, 0, 0, 0, 0, 0) ::
  (13, false, .getfield 24, 3, 0, 0, 2, 0, 0) ::
  (16, false, .getfield 30, 3, 1, 1, 2, 0, 0) ::
  (19, false, .invokevirtual 312, 3, 139, 2, 12, 0, 0) ::
  (22, true, .aload_n 0, 1, 0, 0, 0, 0, 0) ::
  (23, false, .iconst 0, 1, 0, 0, 0, jI 0, 0) ::
  (24, false, .invokevirtual 316, 3, 158, 1, 0, 0, 0) ::
  (27, true, .aload_n 0, 1, 0, 0, 0, 0, 0) ::
  (28, false, .getfield 63, 3, 0, 4, 2, 0, 0) ::
  (31, false, .getfield 319, 3, 12, 11, 0, 0, 0) ::
  (34, false, .sipush 256, 3, 0, 0, 0, jI 256, 0) ::
  (37, false, .if_icmp .le 11, 3, 22, 0, 0, 0, 0) ::
  (40, true, .new 322, 3, 78, 6, 324, 0, 0) ::
  (43, false, .dup, 1, 0, 0, 0, 0, 0) ::
  (44, false, .invokespecial 324, 3, 36, 0, 0, 0, 0) ::
  (47, false, .athrow, 1, 0, 0, 0, 0, 0) ::
  (48, true, .aload_n 0, 1, 0, 0, 0, 0, 0) ::
  (49, false, .iload_n 1, 1, 0, 0, 0, 0, 0) ::
  cl_137_1
def cd_137 : List mj_E := cl_137_0
def cx_137 : mj_X := (1, [], [])
theorem tb_137 : mj_tab (mj_mt 137) cx_137 cd_137 mj_mh [(0, 0, 0), (5224, 0, 0), (5051, 0, 0), (0, 0, 0), (4207, 0, 0), (0, 0, 0), (0, 0, 0), (4203, 0, 0), (1192, 0, 0), (5229, 0, 0), (0, 0, 0), (0, 0, 0), (6069, 0, 0), (0, 0, 0), (4207, 0, 0), (2211, 0, 0), (0, 0, 0), (0, 0, 0), (6124, 6125, 1023), (0, 0, 0), (6125, 0, 0), (0, 0, 0), (0, 0, 0), (0, 0, 0), (4222, 0, 0), (0, 0, 0), (0, 0, 0), (4207, 0, 0), (2211, 0, 0), (4221, 0, 0), (0, 0, 0), (4217, 0, 0), (4191, 0, 0), (0, 0, 0), (4215, 0, 0), (0, 0, 0), (4209, 0, 0), (4187, 0, 0), (0, 0, 0), (4217, 0, 0), (0, 0, 0), (4215, 0, 0), (0, 0, 0), (4210, 0, 0), (0, 0, 0), (4203, 0, 0), (1192, 0, 0), (0, 0, 0), (4203, 0, 0), (1190, 0, 0), (4196, 0, 0), (0, 0, 0), (0, 0, 0), (0, 0, 0), (6069, 0, 0), (0, 0, 0), (4221, 0, 0), (0, 0, 0)] = true := mj_tab_f (by decide +kernel)
theorem ct_137 (G : mj_G) {h : mj_H} (L : isLay h) {d w : Int} (hr : isRr h 7 d w) (hd : -1099511627776 < d ∧ d < 1099511627776) (hd0 : d ≠ 0) (hw : -1 ≤ w ∧ w < 2147483648) {f r : Fm} {N s1 : Nat} (h97 : isFm h 97 f) (h98 : isFm h 98 r) (hrn : rnP d w r N) (hl1 : trL d w r s1 f (1, 0, 0, 1)) (hs1 : s1 < 2147483648) {ra rb : Nat} (hrt : isRt h ra rb) (m114 : isM0 h 114) {va vb vc vd : Int} (wa : isW h 34 va) (wb : isW h 36 vb) (wc : isW h 38 vc) (wd : isW h 40 vd) {n : Int} (hn : -2147483648 ≤ n ∧ n < 2147483648) {zf : Nat → xI} (hs : inQ n → slP d w f r s1 N va vb vc vd n zf) : mj_Ct G (mj_mt 137) 1 6 [.ref 1, .int (jI n)] h (fun o h' => (¬ inQ n → jE 80 h o h') ∧ (inQ n → (256 < mtV d w r (tAll d w n) N → ∃ g, Fr sGa is73 h g ∧ (∃ a b, isRt g a b) ∧ jE 78 g o h') ∧ (mtV d w r (tAll d w n) N ≤ 256 → o = .returned (some (.int (jI (mtV d w r (tAll d w n) N)))) ∧ (hI h' 1 18 = jI (mtV d w r (tAll d w n) N) ∧ hI h' 1 19 = jI n) ∧ (∀ k t, (tAll d w n)[k]? = some t → mtM d w r (tAll d w n) N k = true → tdP (mtM d w r (tAll d w n) N) zf h' k t) ∧ (isW h' 36 vb ∧ isW h' 38 vc) ∧ isM0 h' 114 ∧ (∃ a b, isRt h' a b) ∧ own1 iSv h h' ∧ Fr sSv tSv h h'))) := by
  obtain ⟨T, hT⟩ : ∃ T, T = tAll d w n := ⟨_, rfl⟩
  obtain ⟨V, hV⟩ : ∃ V, V = mtV d w r T N := ⟨_, rfl⟩
  obtain ⟨M, hM⟩ : ∃ M, M = mtM d w r T N := ⟨_, rfl⟩
  have ly : ∀ {h' : mj_H}, Fr sSv tSv h h' → isLay h' := fun F => L.F F (fun a z => by omega)
  have lyG : ∀ {h' : mj_H}, Fr sGa is73 h h' → isLay h' := fun F => L.F F (fun a z => by omega)
  have upG : ∀ {h' : mj_H}, Fr sGa is73 h h' → Fr sSv tSv h h' := fun F => F.mono (fun a z => by omega) (fun a z => by omega)
  have rtF : ∀ {S T' : Nat → Prop} {h1 h2 : mj_H}, Fr S T' h1 h2 → ¬ T' 73 → (∃ a b, isRt h1 a b) → ∃ a b, isRt h2 a b := by
    rintro S T' h1 h2 F hn ⟨a, b, q1, q2, q3, q4⟩
    exact ⟨a, b, (F.R hn _).trans q1, (F.R hn _).trans q2, (F.R hn _).trans q3, q4⟩
  rw [← hT, ← hV, ← hM]
  refine mj_Ct_of mj_ok tb_137 rfl rfl (Nat.le_of_ble_eq_true rfl) (fun Run hR => ?_)
  by_cases hq : inQ n
  · obtain ⟨hokT, hbt, hvb, hgd⟩ := hs hq
    rw [← hT] at hbt hvb hgd
    rw [← hV] at hvb hgd
    rw [← hM] at hgd
    have r48 : V ≤ 256 → ∀ (h' : mj_H) (x2 : Option Value), isTr h' T M V → (∃ a b, isRt h' a b) → Fr sGa is73 h h' → Run 48 [some (.ref 1), some (.int (jI n)), x2] [] h' (1, 6) := by
      intro hv2 h' x2 tr rt F
      obtain ⟨hcap, hpb, hz⟩ := hgd hv2
      obtain ⟨m1, hm1⟩ : ∃ m1, m1 = itM d w s1 f (1, 0, 0, 1) := ⟨_, rfl⟩
      rw [← hm1] at hpb hz
      have r117 : ∀ (h4 : mj_H) (x2 : Option Value), (hI h4 1 18 = jI V ∧ hI h4 1 19 = jI n) → (∀ k t, T[k]? = some t → M k = true → tdP M zf h4 k t) → (isW h4 36 vb ∧ isW h4 38 vc) → isM0 h4 114 → (∃ a b, isRt h4 a b) → own1 iSv h h4 → Fr sSv tSv h h4 → Run 117 [some (.ref 1), some (.int (jI n)), x2] [] h4 (1, 6) := by
        intro h4 x2 i1 td ws m4 rt4 ow F4
        refine hR 60 55 _ _ _ _ _ _ rfl ?_
        refine ⟨(ly F4).K 1 rfl, fun z => absurd hq z, fun _ => ⟨fun z => absurd z (by omega), fun _ => ⟨?_, i1, td, ws, m4, rt4, ow, F4⟩⟩⟩
        rw [i1.1]
      have r112 : ∀ (h4 : mj_H) (x2 : Option Value), (hI h4 1 18 = jI V ∧ hI h4 1 19 = jI n) → isTr h4 T M V → isM h4 114 m1 → (isW h4 36 vb ∧ isW h4 38 vc) → (∃ a b, isRt h4 a b) → own1 iSv h h4 → Fr sSv tSv h h4 → isRr h4 7 d w → isFm h4 98 r → isW h4 34 va → isW h4 40 vd → Run 112 [some (.ref 1), some (.int (jI n)), x2] [] h4 (1, 6) := by
        intro h4 x2 i1 tr4 m4 ws rt4 ow F4 rr4 g98 wa4 wd4
        have L4 := ly F4
        have c158 := ct_158b G L4 rr4 hd hd0 hw g98 hrn tr4 hbt hcap m4 hpb wa4 ws.1 ws.2 wd4 (zf := zf) hz
        refine hR 60 52 _ _ _ _ _ _ rfl ?_
        refine ⟨L4.K 1 rfl, jcallP c158 ?_⟩
        rintro o h5 ⟨rfl, td, ws5, m5, F5⟩
        refine r117 h5 _ ⟨(F5.I (by omega) _).trans i1.1, (F5.I (by omega) _).trans i1.2⟩ (fun k t hk hMk => td k t hk hMk ?_) ws5 m5 (rtF F5 (by omega) rt4) (ow.of F5 (by omega)) (F4.trans (F5.mono (fun a z => by omega) (fun a z => Or.inr z)))
        rw [hM] at hMk
        exact (mtM_iff hk N).1 hMk
      have r82 : ∀ (h4 : mj_H) (x2 : Option Value), (hI h4 1 18 = jI V ∧ hI h4 1 19 = jI n) → isTr h4 T M V → isM h4 114 (1, 0, 0, 1) → isFm h4 112 f → (isW h4 36 vb ∧ isW h4 38 vc) → (∃ a b, isRt h4 a b) → own1 iSv h h4 → Fr sSv tSv h h4 → isRr h4 7 d w → isFm h4 98 r → isW h4 34 va → isW h4 40 vd → Run 82 [some (.ref 1), some (.int (jI n)), x2] [] h4 (1, 6) := by
        intro h4 x2 i1 tr4 m4 g112 ws rt4 ow F4 rr4 g98 wa4 wd4
        have L4 := ly F4
        have c95 := ct_95 G (M := 114) (f := 112) (t := 98) (r := 7) L4.Rk m4 g112 g98 rr4 (by omega) hd hw hl1 hs1
        rw [← hm1] at c95
        refine hR 60 38 _ _ _ _ _ _ rfl ?_
        refine ⟨L4.K 1 rfl, _, L4.R 1 14 _ rfl, L4.K 1 rfl, _, L4.R 1 12 _ rfl, L4.K 1 rfl, _, L4.R 1 7 _ rfl, L4.K 1 rfl, _, L4.R 1 0 _ rfl, L4.K 2 rfl, _, L4.R 2 1 _ rfl, L4.K 1 rfl, _, L4.R 1 0 _ rfl, L4.K 2 rfl, _, L4.R 2 0 _ rfl, L4.K 114 rfl, jcallP c95 ?_⟩
        rintro o h5 ⟨rfl, m5, -, F5⟩
        have r111 : Run 111 [some (.ref 1), some (.int (jI n)), x2] [.int (jI s1)] h5 (1, 6) := by
          refine hR 60 51 _ _ _ _ _ _ rfl ?_
          exact r112 h5 _ ⟨(F5.I (by omega) _).trans i1.1, (F5.I (by omega) _).trans i1.2⟩ (tr4.F F5 (fun x z => by omega)) m5 ⟨ws.1.F F5 (by omega) (by omega) (by omega), ws.2.F F5 (by omega) (by omega) (by omega)⟩ (rtF F5 (by omega) rt4) (ow.of F5 (by omega)) (F4.trans (F5.mono (fun a z => by omega) (fun a z => by omega))) (rr4.F F5 (by omega)) (g98.F F5 (by omega)) (wa4.F F5 (by omega) (by omega) (by omega)) (wd4.F F5 (by omega) (by omega) (by omega))
        exact r111
      have r71 : ∀ (h4 : mj_H) (x2 : Option Value), (hI h4 1 18 = jI V ∧ hI h4 1 19 = jI n) → isTr h4 T M V → isM h4 114 (1, 0, 0, 1) → isFm h4 97 f → (isW h4 36 vb ∧ isW h4 38 vc) → (∃ a b, isRt h4 a b) → own1 iSv h h4 → Fr sSv tSv h h4 → isRr h4 7 d w → isFm h4 98 r → isW h4 34 va → isW h4 40 vd → Run 71 [some (.ref 1), some (.int (jI n)), x2] [] h4 (1, 6) := by
        intro h4 x2 i1 tr4 m4 g97 ws rt4 ow F4 rr4 g98 wa4 wd4
        have L4 := ly F4
        refine hR 60 33 _ _ _ _ _ _ rfl ?_
        refine ⟨L4.K 1 rfl, _, L4.R 1 12 _ rfl, L4.K 1 rfl, _, L4.R 1 6 _ rfl, L4.K 112 rfl, jcallV (ct_25 G (L4.K 112 rfl) (L4.K 97 rfl)) ?_⟩
        rw [g97.2.1, g97.2.2.1, g97.2.2.2]
        have F5 : Fr (fun a => a = 112) noT h4 (sFm h4 112 f) := (Fr.refl (fun a => a = 112) noT h4).sFm rfl _
        exact r82 (sFm h4 112 f) _ i1 (tr4.F F5 (fun x z => by omega)) (m4.F F5 (by omega) (fun _ _ z => z)) (isFm_sFm h4 (L4.K 112 rfl) f) ⟨ws.1.F F5 (by decide) (by decide) (fun z => z), ws.2.F F5 (by decide) (by decide) (fun z => z)⟩ (rtF F5 (fun z => z) rt4) (ow.of F5 (by decide)) (F4.trans (F5.mono (fun a z => by omega) (fun _ z => z.elim))) (rr4.F F5 (by decide)) (g98.F F5 (by decide)) (wa4.F F5 (by decide) (by decide) (fun z => z)) (wd4.F F5 (by decide) (by decide) (fun z => z))
      have r64 : ∀ (h4 : mj_H) (x2 : Option Value), (hI h4 1 18 = jI V ∧ hI h4 1 19 = jI n) → isTr h4 T M V → isM0 h4 114 → isFm h4 97 f → (isW h4 36 vb ∧ isW h4 38 vc) → (∃ a b, isRt h4 a b) → own1 iSv h h4 → Fr sSv tSv h h4 → isRr h4 7 d w → isFm h4 98 r → isW h4 34 va → isW h4 40 vd → Run 64 [some (.ref 1), some (.int (jI n)), x2] [] h4 (1, 6) := by
        intro h4 x2 i1 tr4 m4 g97 ws rt4 ow F4 rr4 g98 wa4 wd4
        have L4 := ly F4
        refine hR 60 30 _ _ _ _ _ _ rfl ?_
        refine ⟨L4.K 1 rfl, _, L4.R 1 14 _ rfl, L4.K 114 rfl, jcallP (ct_26 G m4) ?_⟩
        rintro o h5 ⟨rfl, m5, F5⟩
        exact r71 h5 _ ⟨(F5.I (by omega) _).trans i1.1, (F5.I (by omega) _).trans i1.2⟩ (tr4.F F5 (fun x z => by omega)) m5 (g97.F F5 (by omega)) ⟨ws.1.F F5 (by omega) (by omega) (fun z => z), ws.2.F F5 (by omega) (by omega) (fun z => z)⟩ (rtF F5 (fun z => z) rt4) (ow.of F5 (by omega)) (F4.trans (F5.mono (fun a z => by omega) (fun _ z => z.elim))) (rr4.F F5 (by omega)) (g98.F F5 (by omega)) (wa4.F F5 (by omega) (by omega) (fun z => z)) (wd4.F F5 (by omega) (by omega) (fun z => z))
      have L' := lyG F
      have r53 : ∀ (x2 : Option Value), Run 53 [some (.ref 1), some (.int (jI n)), x2] [] (sI h' 1 19 (jI n)) (1, 6) := by
        intro x2
        have F5 : Fr (fun a => a = 1) noT h' (sI (sI h' 1 19 (jI n)) 1 18 (jI V)) := ((Fr.refl (fun a => a = 1) noT h').sI rfl _ _).sI rfl _ _
        have Fg := upG F
        have e11 : hI (sI h' 1 19 (jI n)) 69 11 = jI V := tr.2.2.1
        refine hR 60 25 _ _ _ _ _ _ rfl ?_
        refine ⟨L'.K 1 rfl, _, L'.R 1 4 _ rfl, L'.K 69 rfl, L'.K 1 rfl, ?_⟩
        rw [e11]
        exact r64 _ _ ⟨sI_at _ _ _ _, rfl⟩ (tr.F F5 (fun x z => by omega)) ((m114.F F (fun x hx z => by omega)).F F5 (fun _ _ z => z)) ((h97.F F (by omega)).F F5 (by decide)) ⟨(wb.F F (by omega) (by omega) (by omega)).F F5 (by decide) (by decide) (fun z => z), (wc.F F (by omega) (by omega) (by omega)).F F5 (by decide) (by decide) (fun z => z)⟩ (rtF F5 (fun z => z) rt) ((own1.put (h' := h') (fun k _ => F.I (by omega) k) (j := 19) (by omega) _).put (by omega) _) (Fg.trans (F5.mono (fun a z => Or.inl z) (fun _ z => z.elim))) ((hr.F F (by omega)).F F5 (by decide)) ((h98.F F (by omega)).F F5 (by decide)) ((wa.F F (by omega) (by omega) (by omega)).F F5 (by decide) (by decide) (fun z => z)) ((wd.F F (by omega) (by omega) (by omega)).F F5 (by decide) (by decide) (fun z => z))
      refine hR 60 22 _ _ _ _ _ _ rfl ?_
      exact ⟨L'.K 1 rfl, r53 _⟩
    have r40 : 256 < V → ∀ (h' : mj_H) (x2 : Option Value), (∃ a b, isRt h' a b) → Fr sGa is73 h h' → Run 40 [some (.ref 1), some (.int (jI n)), x2] [] h' (1, 6) := by
      intro hv2 h' x2 rt F
      refine hR 60 18 _ _ _ _ _ _ rfl ?_
      refine ⟨⟨Nat.le_refl _, Nat.le_refl _⟩, fun z => absurd hq z, fun _ => ⟨fun _ => ⟨h', F, rt, rfl, rfl⟩, fun z => absurd z (by omega)⟩⟩
    have r27 : ∀ (h' : mj_H) (x2 : Option Value), isTr h' T M V → (∃ a b, isRt h' a b) → Fr sGa is73 h h' → Run 27 [some (.ref 1), some (.int (jI n)), x2] [] h' (1, 6) := by
      intro h' x2 tr rt F
      have L' := lyG F
      refine hR 60 13 _ _ _ _ _ _ rfl ?_
      refine ⟨L'.K 1 rfl, _, L'.R 1 4 _ rfl, L'.K 69 rfl, fun c => ?_, fun c => ?_⟩
      · rw [tr.2.2.1] at c
        simp (disch := omega) only [mj_lcm, jI_lt, jI_le, jI_eq, jL_lt, jL_le, jL_eq, jI_lt0, jI_0le, jI_0lt, jI_le0, jI_eq0, jL_eq0, jI_L, jI_add, jI_sub, jI_mul, jI_neg, jL_add, jL_sub, jL_mul, jL_neg, jL_I, jI_div, jI_mod, jL_div, jL_mod] at c
        exact r48 (by omega) h' _ tr rt F
      · rw [tr.2.2.1] at c
        simp (disch := omega) only [mj_lcm, jI_lt, jI_le, jI_eq, jL_lt, jL_le, jL_eq, jI_lt0, jI_0le, jI_0lt, jI_le0, jI_eq0, jL_eq0, jI_L, jI_add, jI_sub, jI_mul, jI_neg, jL_add, jL_sub, jL_mul, jL_neg, jL_I, jI_div, jI_mod, jL_div, jL_mod] at c
        exact r40 (by omega) h' _ rt F
    have r22 : ∀ (h' : mj_H) (x2 : Option Value), isTr h' T (fun _ => false) 0 → (∃ a b, isRt h' a b) → Fr sGa is73 h h' → Run 22 [some (.ref 1), some (.int (jI n)), x2] [] h' (1, 6) := by
      intro h' x2 tr rt F
      have L' := lyG F
      have c158 := ct_158a G L' (hr.F F (by omega)) hd hd0 hw (h98.F F (by omega)) hrn tr (fun t ht => (hbt t ht).1) (by rw [← hV]; exact hvb)
      rw [← hV, ← hM] at c158
      refine hR 60 10 _ _ _ _ _ _ rfl ?_
      refine ⟨L'.K 1 rfl, jcallP c158 ?_⟩
      rintro o h4 ⟨rfl, tr4, F4⟩
      exact r27 h4 _ tr4 (rtF F4 (fun z => z) rt) (F.trans (F4.mono (fun a z => by omega) (fun _ z => z.elim)))
    have r7 : ∀ (x2 : Option Value), Run 7 [some (.ref 1), some (.int (jI n)), x2] [] h (1, 6) := by
      intro x2
      have c139 := ct_139 G L hr hd hw hrt hq.1 (by have := hq.2; omega) hokT
      rw [← hT] at c139
      refine hR 60 3 _ _ _ _ _ _ rfl ?_
      refine ⟨L.K 1 rfl, _, L.R 1 4 _ rfl, L.K 1 rfl, _, L.R 1 0 _ rfl, L.K 2 rfl, _, L.R 2 1 _ rfl, L.K 69 rfl, jcallP c139 ?_⟩
      rintro o h4 ⟨rfl, tr4, rt4, F4⟩
      exact r22 h4 _ tr4 rt4 (F4.mono (fun a z => Or.inl z) (fun _ z => z))
    refine hR 60 0 _ _ _ _ _ _ rfl ?_
    refine jcall (ct_138 G hn.1 hn.2 h) ?_
    rw [if_pos ⟨hq.1, hq.2⟩]
    have r4 : ∀ (x2 : Option Value), Run 4 [some (.ref 1), some (.int (jI n)), x2] [.int (jI 1)] h (1, 6) := by
      intro x2
      refine hR 60 2 _ _ _ _ _ _ rfl ?_
      exact jcallV (ct_100a G h) (r7 _)
    exact r4 _
  · refine hR 60 0 _ _ _ _ _ _ rfl ?_
    refine jcall (ct_138 G hn.1 hn.2 h) ?_
    rw [if_neg (fun z => hq ⟨z.1, z.2⟩)]
    have r4 : ∀ (x2 : Option Value), Run 4 [some (.ref 1), some (.int (jI n)), x2] [.int (jI 0)] h (1, 6) := by
      intro x2
      refine hR 60 2 _ _ _ _ _ _ rfl ?_
      exact jcallE (ct_100b G h) ⟨fun _ => jE0 _ _, fun z => absurd z hq⟩
    exact r4 _
