/-! contract: the group is settled -/
section
variable {d w : Int} {n : Nat} {A : Nat → pI} {nxt : Nat → Nat} {cls : Nat → Int} {cnt : Nat} {nm : Nat → Nat}
abbrev inSt (a : Nat) : Prop := a = 52 ∨ (54 ≤ a ∧ a ≤ 66)
theorem prF_div {d : Int} (h : isDd d) : (d % 2 - d).tdiv 4 = (d % 2 - d) / 4 := by
  unfold isDd at h
  have hp : d % 2 = 0 ∨ d % 2 = 1 := by omega
  obtain ⟨q, hq⟩ : ∃ q, d % 2 - d = 4 * q := ⟨(d % 2 - d) / 4, by omega⟩
  rw [hq, Int.mul_tdiv_cancel_left _ (by decide), Int.mul_ediv_cancel_left _ (by decide)]
theorem prF_ok {d : Int} (hn : nsq d) (h : isDd d) (hb : -1048576 ≤ d ∧ d ≤ 1048576) : okF (prF d) := by
  have hc := nsq_3 hn (prF_d h)
  have hp : d % 2 = 0 ∨ d % 2 = 1 := by omega
  refine ⟨by simp only [prF]; omega, by simp only [prF]; omega, ?_, hc⟩
  simp only [prF]
  omega
/-- FormHouse$Group.settle()V; cuts at [11, 15, 31, 49, 75, 78, 106, 112] -/
def cl_74_2 : List mj_E := (91, false, .getfield 24, 3, 8, 6, 2, 0, 0) ::
  (94, false, .iload 5, 2, 0, 0, 0, 0, 0) ::
  (96, false, .saload, 1, 0, 0, 0, 0, 0) ::
  (97, false, .ifCond .ne 9, 3, 55, 0, 0, 0, 0) ::
  (100, false, .aload_n 0, 1, 0, 0, 0, 0, 0) ::
  (101, false, .iload 5, 2, 0, 0, 0, 0, 0) ::
  (103, false, .invokevirtual 110, 3, 77, 1, 8, 0, 0) ::
  (106, true, .iinc 5 1, 3, 0, 0, 0, jI 1, 0) ::
  (109, false, .goto (-31), 3, 42, 0, 0, 0, 0) ::
  (112, true, .aload_n 0, 1, 0, 0, 0, 0, 0) ::
  (113, false, .invokevirtual 114, 3, 86, 0, 8, 0, 0) ::
  (116, false, .return_, 1, 0, 0, 0, 0, 0) ::
  []
def cl_74_1 : List mj_E := (40, false, .invokevirtual 66, 3, 75, 1, 7, 0, 0) ::
  (43, false, .putfield 84, 3, 8, 5, 0, 0, 0) ::
  (46, false, .iconst 0, 1, 0, 0, 0, jI 0, 0) ::
  (47, false, .istore 5, 2, 0, 0, 0, 0, 0) ::
  (49, true, .iload 5, 2, 0, 0, 0, 0, 0) ::
  (51, false, .aload_n 0, 1, 0, 0, 0, 0, 0) ::
  (52, false, .getfield 46, 3, 8, 0, 2, 0, 0) ::
  (55, false, .getfield 107, 3, 7, 5, 0, 0, 0) ::
  (58, false, .if_icmp .ge 17, 3, 40, 0, 0, 0, 0) ::
  (61, false, .aload_n 0, 1, 0, 0, 0, 0, 0) ::
  (62, false, .getfield 24, 3, 8, 6, 2, 0, 0) ::
  (65, false, .iload 5, 2, 0, 0, 0, 0, 0) ::
  (67, false, .iconst 0, 1, 0, 0, 0, jI 0, 0) ::
  (68, false, .sastore, 1, 0, 0, 0, 0, 0) ::
  (69, false, .iinc 5 1, 3, 0, 0, 0, jI 1, 0) ::
  (72, false, .goto (-23), 3, 28, 0, 0, 0, 0) ::
  (75, true, .iconst 0, 1, 0, 0, 0, jI 0, 0) ::
  (76, false, .istore 5, 2, 0, 0, 0, 0, 0) ::
  (78, true, .iload 5, 2, 0, 0, 0, 0, 0) ::
  (80, false, .aload_n 0, 1, 0, 0, 0, 0, 0) ::
  (81, false, .getfield 46, 3, 8, 0, 2, 0, 0) ::
  (84, false, .getfield 107, 3, 7, 5, 0, 0, 0) ::
  (87, false, .if_icmp .ge 25, 3, 57, 0, 0, 0, 0) ::
  (90, false, .aload_n 0, 1, 0, 0, 0, 0, 0) ::
  cl_74_2
def cl_74_0 : List mj_E := (0, false, .aload_n 0, 1, 0, 0, 0, 0, 0) ::
  (1, false, .getfield 46, 3, 8, 0, 2, 0, 0) ::
  (4, false, .getfield 96, 3, 7, 0, 2, 0, 0) ::
  (7, false, .getfield 100, 3, 3, 0, 1, 0, 0) ::
  (10, false, .lstore_n 1, 1, 0, 0, 0, 0, 0) ::
  (11, true, .lload_n 1, 1, 0, 0, 0, 0, 0) ::
  (12, false, .lconst 1, 1, 0, 0, 0, 0, jL 1) ::
  (13, false, .land, 1, 0, 0, 0, 0, 0) ::
  (14, false, .lstore_n 3, 1, 0, 0, 0, 0, 0) ::
  (15, true, .aload_n 0, 1, 0, 0, 0, 0, 0) ::
  (16, false, .getfield 21, 3, 8, 4, 2, 0, 0) ::
  (19, false, .lconst 1, 1, 0, 0, 0, 0, jL 1) ::
  (20, false, .lload_n 3, 1, 0, 0, 0, 0, 0) ::
  (21, false, .lload_n 3, 1, 0, 0, 0, 0, 0) ::
  (22, false, .lload_n 1, 1, 0, 0, 0, 0, 0) ::
  (23, false, .lsub, 1, 0, 0, 0, 0, 0) ::
  (24, false, .ldc2_w 105, 3, 0, 0, 0, 0, jL 4) ::
  (27, false, .ldiv, 1, 0, 0, 0, 0, 0) ::
  (28, false, .invokevirtual 80, 3, 24, 3, 6, 0, 0) ::
  (31, true, .aload_n 0, 1, 0, 0, 0, 0, 0) ::
  (32, false, .aload_n 0, 1, 0, 0, 0, 0, 0) ::
  (33, false, .getfield 46, 3, 8, 0, 2, 0, 0) ::
  (36, false, .aload_n 0, 1, 0, 0, 0, 0, 0) ::
  (37, false, .getfield 21, 3, 8, 4, 2, 0, 0) ::
  cl_74_1
def cd_74 : List mj_E := cl_74_0
def cx_74 : mj_X := (0, [], [])
theorem tb_74 : mj_tab (mj_mt 74) cx_74 cd_74 mj_mh [(0, 0, 0), (2074, 0, 0), (1233, 0, 0), (1075, 0, 0), (0, 0, 0), (0, 0, 0), (0, 0, 0), (0, 0, 0), (0, 0, 0), (0, 0, 0), (2078, 0, 0), (0, 0, 0), (0, 0, 0), (0, 0, 0), (0, 0, 0), (0, 0, 0), (4095, 0, 0), (0, 0, 0), (4096, 0, 0), (0, 0, 0), (0, 0, 0), (2074, 0, 0), (0, 0, 0), (2078, 0, 0), (4097, 0, 0), (2079, 0, 0), (0, 0, 0), (0, 0, 0), (0, 0, 0), (0, 0, 0), (2074, 0, 0), (2000, 0, 0), (0, 0, 0), (0, 0, 0), (2081, 0, 0), (0, 0, 0), (0, 0, 0), (0, 0, 0), (0, 0, 0), (0, 0, 0), (0, 0, 0), (0, 0, 0), (0, 0, 0), (0, 0, 0), (2074, 0, 0), (2000, 0, 0), (0, 0, 0), (0, 0, 0), (2081, 0, 0), (0, 0, 0), (0, 0, 0), (0, 0, 0), (0, 0, 0), (0, 0, 0), (4107, 0, 0), (0, 0, 0), (0, 0, 0), (0, 0, 0), (4150, 0, 0), (0, 0, 0)] = true := mj_tab_f (by decide +kernel)
theorem ct_74 (G : mj_G) {h : mj_H} (L : isLay h) (T : isTF d w n A nxt cls cnt nm) (hT : isTB h d w n A cls cnt nm) {o : Fin cnt → Nat} (ho : ∀ x, isOrd (mulC T) (oneC T) x (o x) ∧ o x ≤ 4096) {f : Nat} (hok : gnOK T o f (st0 T)) : mj_Ct G (mj_mt 74) 0 0 [.ref 52] h (fun oc h' => oc = .returned none ∧ isGs (gnS T o f (st0 T)) h' ∧ isGr T o h' ∧ Fr inSt noT h h') := by
  obtain ⟨⟨hnsq, hdd, hd, hw, hn, hcnt, hS, hx⟩, -, -, -, -, hred, -, -⟩ := id T
  have h1l := (oneC T).isLt
  have hokp := prF_ok hnsq hdd hd
  obtain ⟨m, m1, m2, k, k1, k2⟩ := hred (prF d) (prF_vld hdd) hokp
  have hee := (it_eqv (w := w) hnsq m _ (prF_d hdd)).1
  rw [k2] at hee
  obtain ⟨c0, c1, c2, c3⟩ := tf_place T k1
  have ec0 : c0 = (oneC T).val := tf_uniq T c1 h1l (eqv_trans hee c3) (oneC_spec T)
  refine mj_Ct_of mj_ok tb_74 rfl rfl (Nat.le_of_ble_eq_true rfl) (fun Run hR => ?_)
  have ecc : ∀ {h' : mj_H}, Fr inSt noT h h' → hI h' 46 5 = jI cnt := fun F => (F.I (by omega) _).trans hT.2.1.1
  have r112 : ∀ (h' : mj_H) (x1 x2 x3 x4 x5 : Option Value), isGr T o h' → Fr inSt noT h h' → Run 112 [some (.ref 52), x1, x2, x3, x4, x5] [] h' (0, 0) := by
    intro h' x1 x2 x3 x4 x5 hG F
    have L0 := L.F F (fun _ z => z.elim)
    have hT0 := hT.F F (by omega)
    refine hR 60 57 _ _ _ _ _ _ rfl ?_
    refine ⟨L0.K 52 rfl, jcallP (ct_86 G L0 T hT0 hG ho hok) ?_⟩
    rintro oo h2 ⟨rfl, p1, p2, p3⟩
    exact ⟨rfl, p1, p2, F.trans (p3.mono (by intro a z; omega) (fun _ z => z))⟩
  have r78 : ∀ (t i : Nat) (iI : Int32) (h' : mj_H) (dL bL : Int64), i + t = cnt → hI h' 52 5 = jI (oneC T).val → (∀ y : Fin cnt, y.val < i → hI h' 61 y.val = jI (o y)) → (∀ y : Fin cnt, hI h' 61 y.val = jI 0 ∨ hI h' 61 y.val = jI (o y)) → Fr inSt noT h h' → iI = jI i → Run 78 [some (.ref 52), some (.long dL), none, some (.long bL), none, some (.int iI)] [] h' (0, 0) := by
    intro t
    induction t with
    | zero =>
      rintro i iI h' dL bL ht hP ha hb F rfl
      have L0 := L.F F (fun _ z => z.elim)
      refine hR 60 42 _ _ _ _ _ _ rfl ?_
      refine ⟨L0.K 52 rfl, _, L0.R 52 0 _ rfl, L0.K 46 rfl, ?_⟩
      rw [ecc F]
      refine ⟨fun c => ?_, fun c => ?_⟩
      · exact r112 h' _ _ _ _ _ ⟨hP, fun y => ha y (by have := y.isLt; omega)⟩ F
      · simp (disch := omega) only [mj_lcm, jI_lt, jI_le, jI_eq, jL_lt, jL_le, jL_eq, jI_lt0, jI_0le, jI_0lt, jI_le0, jI_eq0, jL_eq0, jI_L, jI_add, jI_sub, jI_mul, jI_neg, jL_add, jL_sub, jL_mul, jL_neg, jL_I, jI_div, jI_mod, jL_div, jL_mod] at c
        omega
    | succ t ih =>
      rintro i iI h' dL bL ht hP ha hb F rfl
      have L0 := L.F F (fun _ z => z.elim)
      have hT0 := hT.F F (by omega)
      have hic : i < cnt := by omega
      have hoi := ho ⟨i, hic⟩
      have hoi0 := hoi.1.1
      have r106 : ∀ (h2 : mj_H), hI h2 52 5 = jI (oneC T).val → (∀ y : Fin cnt, y.val < i + 1 → hI h2 61 y.val = jI (o y)) → (∀ y : Fin cnt, hI h2 61 y.val = jI 0 ∨ hI h2 61 y.val = jI (o y)) → Fr inSt noT h h2 → Run 106 [some (.ref 52), some (.long dL), none, some (.long bL), none, some (.int (jI i))] [] h2 (0, 0) := by
        intro h2 hP2 ha2 hb2 F2
        refine hR 60 55 _ _ _ _ _ _ rfl ?_
        exact ih (i + 1) _ h2 dL bL (by omega) hP2 ha2 hb2 F2 (jI_add _ _)
      have hbi := hb ⟨i, hic⟩
      simp only at hbi
      refine hR 60 42 _ _ _ _ _ _ rfl ?_
      refine ⟨L0.K 52 rfl, _, L0.R 52 0 _ rfl, L0.K 46 rfl, ?_⟩
      rw [ecc F]
      refine ⟨fun c => ?_, fun c => ?_⟩
      · simp (disch := omega) only [mj_lcm, jI_lt, jI_le, jI_eq, jL_lt, jL_le, jL_eq, jI_lt0, jI_0le, jI_0lt, jI_le0, jI_eq0, jL_eq0, jI_L, jI_add, jI_sub, jI_mul, jI_neg, jL_add, jL_sub, jL_mul, jL_neg, jL_I, jI_div, jI_mod, jL_div, jL_mod] at c
        omega
      · refine ⟨L0.K 52 rfl, _, L0.R 52 6 _ rfl, L0.K 61 rfl, ?_, ?_⟩
        · rw [show hN h' 61 = 4096 from L0.N 60 rfl]
          exact jI_in (by omega) (by omega) (by omega)
        · rw [jI_nat (by omega) (by omega), Int.toNat_natCast]
          refine ⟨fun c2 => ?_, fun c2 => ?_⟩
          · refine ⟨L0.K 52 rfl, jcallP (ct_77 G L0 T hT0 hP ho ⟨i, hic⟩) ?_⟩
            rintro oo h2 ⟨rfl, p1, p2, p3⟩
            refine r106 h2 ((p3.I (by omega) _).trans hP) (fun y hy => ?_) (fun y => ?_) (F.trans (p3.mono (by intro a z; omega) (fun _ z => z)))
            · by_cases e : y.val = i
              · have e1 : y = ⟨i, hic⟩ := Fin.ext e
                have := p1 1
                rw [pw_one (gpC T)] at this
                rw [e1]
                exact this
              · rcases p2 y with g | g
                · rw [g]
                  exact ha y (by omega)
                · exact g
            · rcases p2 y with g | g
              · rw [g]
                exact hb y
              · exact Or.inr g
          · refine r106 h' hP (fun y hy => ?_) hb F
            by_cases e : y.val = i
            · have e1 : y = ⟨i, hic⟩ := Fin.ext e
              rw [e1]
              rcases hbi with g | g
              · exact absurd g (fun z => c2 (by rw [z]; rfl))
              · exact g
            · exact ha y (by omega)
  have r49 : ∀ (t i : Nat) (iI : Int32) (h' : mj_H) (dL bL : Int64), i + t = cnt → hI h' 52 5 = jI (oneC T).val → (∀ j, j < i → hI h' 61 j = jI 0) → Fr inSt noT h h' → iI = jI i → Run 49 [some (.ref 52), some (.long dL), none, some (.long bL), none, some (.int iI)] [] h' (0, 0) := by
    intro t
    induction t with
    | zero =>
      rintro i iI h' dL bL ht hP ha F rfl
      have L0 := L.F F (fun _ z => z.elim)
      refine hR 60 28 _ _ _ _ _ _ rfl ?_
      refine ⟨L0.K 52 rfl, _, L0.R 52 0 _ rfl, L0.K 46 rfl, ?_⟩
      rw [ecc F]
      refine ⟨fun c => ?_, fun c => ?_⟩
      · refine hR 60 40 _ _ _ _ _ _ rfl ?_
        exact r78 cnt 0 _ h' dL bL (by omega) hP (fun y hy => absurd hy (Nat.not_lt_zero _)) (fun y => Or.inl (ha y.val (by have := y.isLt; omega))) F rfl
      · simp (disch := omega) only [mj_lcm, jI_lt, jI_le, jI_eq, jL_lt, jL_le, jL_eq, jI_lt0, jI_0le, jI_0lt, jI_le0, jI_eq0, jL_eq0, jI_L, jI_add, jI_sub, jI_mul, jI_neg, jL_add, jL_sub, jL_mul, jL_neg, jL_I, jI_div, jI_mod, jL_div, jL_mod] at c
        omega
    | succ t ih =>
      rintro i iI h' dL bL ht hP ha F rfl
      have L0 := L.F F (fun _ z => z.elim)
      refine hR 60 28 _ _ _ _ _ _ rfl ?_
      refine ⟨L0.K 52 rfl, _, L0.R 52 0 _ rfl, L0.K 46 rfl, ?_⟩
      rw [ecc F]
      refine ⟨fun c => ?_, fun c => ?_⟩
      · simp (disch := omega) only [mj_lcm, jI_lt, jI_le, jI_eq, jL_lt, jL_le, jL_eq, jI_lt0, jI_0le, jI_0lt, jI_le0, jI_eq0, jL_eq0, jI_L, jI_add, jI_sub, jI_mul, jI_neg, jL_add, jL_sub, jL_mul, jL_neg, jL_I, jI_div, jI_mod, jL_div, jL_mod] at c
        omega
      · refine ⟨L0.K 52 rfl, _, L0.R 52 6 _ rfl, L0.K 61 rfl, ?_, ?_⟩
        · rw [show hN h' 61 = 4096 from L0.N 60 rfl]
          exact jI_in (by omega) (by omega) (by omega)
        · rw [jI_nat (by omega) (by omega), Int.toNat_natCast, jI_s (by decide) (by decide)]
          refine ih (i + 1) _ _ dL bL (by omega) ((congrFun (sI_a _ (by decide) _ _) _).trans hP) (fun j hj => ?_) (F.sI (by omega) _ _) (jI_add _ _)
          by_cases e : j = i
          · subst e
            exact sI_at _ _ _ _
          · exact (sI_k _ _ e _).trans (ha j (by omega))
  have r31 : ∀ (h' : mj_H) (dL bL : Int64) (x5 : Option Value), isFm h' 60 (prF d) → Fr inSt noT h h' → Run 31 [some (.ref 52), some (.long dL), none, some (.long bL), none, x5] [] h' (0, 0) := by
    intro h' dL bL x5 hf F
    have L0 := L.F F (fun _ z => z.elim)
    have hT0 := hT.F F (by omega)
    have c75 := ct_75 G L0 hT0.1 hS hT0.2.2 (by omega) hw hT0.2.1 (f := 60) (m := m) (k := k) hf (by decide) m2 m1 k1 (by rw [k2]; rfl) (by rw [k2]; rfl)
    refine hR 60 19 _ _ _ _ _ _ rfl ?_
    refine ⟨L0.K 52 rfl, _, L0.R 52 0 _ rfl, L0.K 52 rfl, _, L0.R 52 4 _ rfl, L0.K 46 rfl, jcallP c75 ?_⟩
    rintro oo h2 ⟨rfl, rfl⟩
    have F2 : Fr inSt noT h (sFm h' 60 (itF d w m (prF d))) := F.sFm (by omega) _
    have L2 := L.F F2 (fun _ z => z.elim)
    refine ⟨L2.K 52 rfl, ?_⟩
    refine r49 cnt 0 _ _ dL bL (by omega) ?_ (fun j hj => absurd hj (Nat.not_lt_zero _)) (F2.sI (by omega) _ _) rfl
    rw [sI_at, c2, ec0]
  have r15 : ∀ (bL : Int64) (x5 : Option Value), bL = jL (d % 2) → Run 15 [some (.ref 52), some (.long (jL d)), none, some (.long bL), none, x5] [] h (0, 0) := by
    rintro bL x5 rfl
    have c24 := ct_24 G (h := h) (f := 60) (L.K 60 rfl) (jL 1) (jL (d % 2)) (jL ((d % 2 - d) / 4))
    have e24 : sF h 60 (jL 1) (jL (d % 2)) (jL ((d % 2 - d) / 4)) = sFm h 60 (prF d) := rfl
    rw [e24] at c24
    have hp : d % 2 = 0 ∨ d % 2 = 1 := by omega
    have ed : jL ((d % 2 - d) / 4) = (jL (d % 2) - jL d) / jL 4 := by
      rw [jL_sub, jL_div (by omega) (by omega) (by decide) (by decide), prF_div hdd]
    rw [ed] at c24
    refine hR 60 9 _ _ _ _ _ _ rfl ?_
    refine ⟨L.K 52 rfl, _, L.R 52 4 _ rfl, by decide, L.K 60 rfl, jcallV c24 ?_⟩
    exact r31 _ _ _ _ (isFm_sFm h (L.K 60 rfl) _) ((Fr.refl inSt noT h).sFm (by omega) _)
  have r11 : ∀ (dL : Int64) (x3 x4 x5 : Option Value), dL = jL d → Run 11 [some (.ref 52), some (.long dL), none, x3, x4, x5] [] h (0, 0) := by
    rintro dL x3 x4 x5 rfl
    have e1 : jL d &&& jL 1 = jL (d % 2) := jL_mask (k := 1) (by decide) rfl
    refine hR 60 5 _ _ _ _ _ _ rfl ?_
    exact r15 _ _ e1
  refine hR 60 0 _ _ _ _ _ _ rfl ?_
  refine ⟨L.K 52 rfl, _, L.R 52 0 _ rfl, L.K 46 rfl, _, L.R 46 0 _ rfl, L.K 7 rfl, ?_⟩
  exact r11 _ _ _ _ hT.2.2.2.1
end
