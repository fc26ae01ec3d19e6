/-! contracts: inverses, powers, orders -/
/-- FormHouse$Group.turned(I)I; cuts at [] -/
def cd_89 : List mj_E := [(0, false, .aload_n 0, 1, 0, 0, 0, 0, 0),
  (1, false, .getfield 46, 3, 8, 0, 2, 0, 0),
  (4, false, .iload_n 1, 1, 0, 0, 0, 0, 0),
  (5, false, .aload_n 0, 1, 0, 0, 0, 0, 0),
  (6, false, .getfield 12, 3, 8, 2, 2, 0, 0),
  (9, false, .invokevirtual 54, 3, 79, 2, 7, 0, 0),
  (12, false, .aload_n 0, 1, 0, 0, 0, 0, 0),
  (13, false, .getfield 21, 3, 8, 4, 2, 0, 0),
  (16, false, .aload_n 0, 1, 0, 0, 0, 0, 0),
  (17, false, .getfield 12, 3, 8, 2, 2, 0, 0),
  (20, false, .getfield 70, 3, 6, 0, 1, 0, 0),
  (23, false, .aload_n 0, 1, 0, 0, 0, 0, 0),
  (24, false, .getfield 12, 3, 8, 2, 2, 0, 0),
  (27, false, .getfield 74, 3, 6, 1, 1, 0, 0),
  (30, false, .lneg, 1, 0, 0, 0, 0, 0),
  (31, false, .aload_n 0, 1, 0, 0, 0, 0, 0),
  (32, false, .getfield 12, 3, 8, 2, 2, 0, 0),
  (35, false, .getfield 77, 3, 6, 2, 1, 0, 0),
  (38, false, .invokevirtual 80, 3, 24, 3, 6, 0, 0),
  (41, false, .aload_n 0, 1, 0, 0, 0, 0, 0),
  (42, false, .getfield 46, 3, 8, 0, 2, 0, 0),
  (45, false, .aload_n 0, 1, 0, 0, 0, 0, 0),
  (46, false, .getfield 21, 3, 8, 4, 2, 0, 0),
  (49, false, .invokevirtual 66, 3, 75, 1, 7, 0, 0),
  (52, false, .ireturn, 1, 0, 0, 0, 0, 0)]
def cx_89 : mj_X := (1, [], [])
theorem tb_89 : mj_tab (mj_mt 89) cx_89 cd_89 mj_mh [(0, 0, 0), (2074, 0, 0), (0, 0, 0), (0, 0, 0), (2076, 0, 0), (4115, 0, 0), (0, 0, 0), (2078, 0, 0), (0, 0, 0), (2076, 0, 0), (1160, 0, 0), (0, 0, 0), (2076, 0, 0), (1168, 0, 0), (0, 0, 0), (0, 0, 0), (2076, 0, 0), (1176, 0, 0), (4096, 0, 0), (0, 0, 0), (2074, 0, 0), (0, 0, 0), (2078, 0, 0), (4097, 0, 0), (0, 0, 0)] = true := mj_tab_f (by decide +kernel)
theorem ct_89 (G : mj_G) {h : mj_H} (L : isLay h) {d w : Int} {n : Nat} {A : Nat → pI} {nxt : Nat → Nat} {cls : Nat → Int} {cnt : Nat} {nm : Nat → Nat} (T : isTF d w n A nxt cls cnt nm) (hT : isTB h d w n A cls cnt nm) (x : Fin cnt) : mj_Ct G (mj_mt 89) 0 0 [.ref 52, .int (jI x.val)] h (fun o h' => (∃ z : Fin cnt, mulC T x z = oneC T ∧ o = .returned (some (.int (jI z.val)))) ∧ Fr inGt noT h h') := by
  obtain ⟨⟨hnsq, hdd, hd, hw, hn, hcnt, hS, hx⟩, hv, hcl, hnm, heq, hred, hring, hall⟩ := id T
  have hvx := tf_vld T x.isLt
  have hok := tf_ok T (hnm x.val x.isLt).1
  have hokn : okF ((nmF d A nm x.val).1, -(nmF d A nm x.val).2.1, (nmF d A nm x.val).2.2) := by
    obtain ⟨o1, o2, o3, o4⟩ := hok
    exact ⟨o1, by simp only [nmF]; omega, o3, o4⟩
  obtain ⟨m, m1, m2, k, k1, k2⟩ := hred _ (inv_vld hvx) hokn
  have hee := (it_eqv (w := w) hnsq m _ (inv_vld hvx).1).1
  rw [k2] at hee
  refine mj_Ct_of mj_ok tb_89 rfl rfl (Nat.le_of_ble_eq_true rfl) (fun Run hR => ?_)
  refine hR 40 0 _ _ _ _ _ _ rfl ?_
  refine ⟨L.K 52 rfl, _, L.R 52 0 _ rfl, L.K 52 rfl, _, L.R 52 2 _ rfl, L.K 46 rfl, jcallV (ct_79' G L T hT x.isLt (L.K 58 rfl)) ?_⟩
  have q1 : Fr (fun a => a = 58) noT h (sFm h 58 (nmF d A nm x.val)) := (Fr.refl (fun a => a = 58) noT h).sFm rfl _
  have L1 := L.F q1 (fun _ z => z.elim)
  have hT1 := hT.F q1 (by omega)
  have g1 := isFm_sFm h (L.K 58 rfl) (nmF d A nm x.val)
  generalize sFm h 58 (nmF d A nm x.val) = h1 at q1 L1 hT1 g1
  have c24 := ct_24 G (h := h1) (f := 60) (L1.K 60 rfl) (jL (nmF d A nm x.val).1) (jL (-(nmF d A nm x.val).2.1)) (jL (nmF d A nm x.val).2.2)
  have e24 : sF h1 60 (jL (nmF d A nm x.val).1) (jL (-(nmF d A nm x.val).2.1)) (jL (nmF d A nm x.val).2.2) = sFm h1 60 ((nmF d A nm x.val).1, -(nmF d A nm x.val).2.1, (nmF d A nm x.val).2.2) := rfl
  rw [e24, ← jL_neg, ← g1.2.1, ← g1.2.2.1, ← g1.2.2.2] at c24
  refine ⟨L1.K 52 rfl, _, L1.R 52 4 _ rfl, L1.K 52 rfl, _, L1.R 52 2 _ rfl, L1.K 58 rfl, L1.K 52 rfl, _, L1.R 52 2 _ rfl, L1.K 58 rfl, L1.K 52 rfl, _, L1.R 52 2 _ rfl, L1.K 58 rfl, L1.K 60 rfl, jcallV c24 ?_⟩
  have q2 : Fr (fun a => a = 60) noT h1 (sFm h1 60 ((nmF d A nm x.val).1, -(nmF d A nm x.val).2.1, (nmF d A nm x.val).2.2)) := (Fr.refl (fun a => a = 60) noT h1).sFm rfl _
  have L2 := L1.F q2 (fun _ z => z.elim)
  have hT2 := hT1.F q2 (by omega)
  have g2 := isFm_sFm h1 (L1.K 60 rfl) ((nmF d A nm x.val).1, -(nmF d A nm x.val).2.1, (nmF d A nm x.val).2.2)
  generalize sFm h1 60 ((nmF d A nm x.val).1, -(nmF d A nm x.val).2.1, (nmF d A nm x.val).2.2) = h2 at q2 L2 hT2 g2
  have c75 := ct_75 G L2 hT2.1 hS hT2.2.2 (by omega) hw hT2.2.1 (f := 60) (m := m) (k := k) g2 (by decide) m2 m1 k1 (by rw [k2]; rfl) (by rw [k2]; rfl)
  refine ⟨L2.K 52 rfl, _, L2.R 52 0 _ rfl, L2.K 52 rfl, _, L2.R 52 4 _ rfl, L2.K 46 rfl, jcallP c75 ?_⟩
  rintro o h4 ⟨rfl, rfl⟩
  obtain ⟨c, c1, c2, c3⟩ := tf_place T k1
  refine ⟨⟨⟨c, c1⟩, invC T (eqv_trans hee c3), ?_⟩, ?_⟩
  · rw [c2]
  · exact ((q1.mono (by intro a z; omega) (fun _ z => z)).trans (q2.mono (by intro a z; omega) (fun _ z => z))).sFm (by omega) _
/-- the principal class and the orders lie in the heap -/
def isGr {d w : Int} {n : Nat} {A : Nat → pI} {nxt : Nat → Nat} {cls : Nat → Int} {cnt : Nat} {nm : Nat → Nat} (T : isTF d w n A nxt cls cnt nm) (o : Fin cnt → Nat) (h : mj_H) : Prop := hI h 52 5 = jI (oneC T).val ∧ ∀ x : Fin cnt, hI h 61 x.val = jI (o x)
theorem pw_half {α : Type} {mul : α → α → α} {e : α} (Gp : isGp mul e) (p s : α) (l : Nat) : mul p (pw mul e s l) = mul (if l % 2 = 1 then mul p s else p) (pw mul e (mul s s) (l / 2)) := by
  have h2 : pw mul e s 2 = mul s s := by
    show mul (mul e s) s = _
    rw [Gp.2.2.1]
  rw [← h2, pw_pw Gp]
  by_cases g : l % 2 = 1
  · rw [if_pos g, Gp.1]
    congr 1
    have : pw mul e s l = mul (pw mul e s 1) (pw mul e s (2 * (l / 2))) := by
      rw [← pw_add Gp, show 1 + 2 * (l / 2) = l by omega]
    rw [this, pw_one Gp]
  · rw [if_neg g, show 2 * (l / 2) = l by omega]
theorem pw_invmod {α : Type} {mul : α → α → α} {e : α} (Gp : isGp mul e) {x z : α} (hz : mul x z = e) {o a b : Nat} (ho : isOrd mul e x o) (hab : o ∣ a + b) : pw mul e z a = pw mul e x b := by
  have h1 : mul (pw mul e x a) (pw mul e z a) = e := by rw [← pw_mul Gp, hz, pw_e Gp]
  have h2 : mul (pw mul e x a) (pw mul e x b) = e := by
    rw [← pw_add Gp]
    exact (ord_dvd Gp ho _).2 hab
  exact gp_cancel Gp (h1.trans h2.symm)
/-- FormHouse$Group.raised(II)I; cuts at [5, 20, 49, 70, 80] -/
def cl_88_2 : List mj_E := (80, true, .iload 5, 2, 0, 0, 0, 0, 0) ::
  (82, false, .iconst 1, 1, 0, 0, 0, jI 1, 0) ::
  (83, false, .ishr, 1, 0, 0, 0, 0, 0) ::
  (84, false, .istore 5, 2, 0, 0, 0, 0, 0) ::
  (86, false, .goto (-37), 3, 31, 0, 0, 0, 0) ::
  (89, false, .iload_n 3, 1, 0, 0, 0, 0, 0) ::
  (90, false, .ireturn, 1, 0, 0, 0, 0, 0) ::
  []
def cl_88_1 : List mj_E := (39, false, .iload_n 2, 1, 0, 0, 0, 0, 0) ::
  (40, false, .aload_n 0, 1, 0, 0, 0, 0, 0) ::
  (41, false, .getfield 24, 3, 8, 6, 2, 0, 0) ::
  (44, false, .iload_n 1, 1, 0, 0, 0, 0, 0) ::
  (45, false, .saload, 1, 0, 0, 0, 0, 0) ::
  (46, false, .irem, 1, 0, 0, 0, 0, 0) ::
  (47, false, .istore 5, 2, 0, 0, 0, 0, 0) ::
  (49, true, .iload 5, 2, 0, 0, 0, 0, 0) ::
  (51, false, .ifCond .le 38, 3, 53, 0, 0, 0, 0) ::
  (54, false, .iload 5, 2, 0, 0, 0, 0, 0) ::
  (56, false, .iconst 1, 1, 0, 0, 0, jI 1, 0) ::
  (57, false, .iand, 1, 0, 0, 0, 0, 0) ::
  (58, false, .iconst 1, 1, 0, 0, 0, jI 1, 0) ::
  (59, false, .if_icmp .ne 11, 3, 43, 0, 0, 0, 0) ::
  (62, false, .aload_n 0, 1, 0, 0, 0, 0, 0) ::
  (63, false, .iload_n 3, 1, 0, 0, 0, 0, 0) ::
  (64, false, .iload 4, 2, 0, 0, 0, 0, 0) ::
  (66, false, .invokevirtual 92, 3, 78, 2, 8, 0, 0) ::
  (69, false, .istore_n 3, 1, 0, 0, 0, 0, 0) ::
  (70, true, .aload_n 0, 1, 0, 0, 0, 0, 0) ::
  (71, false, .iload 4, 2, 0, 0, 0, 0, 0) ::
  (73, false, .iload 4, 2, 0, 0, 0, 0, 0) ::
  (75, false, .invokevirtual 92, 3, 78, 2, 8, 0, 0) ::
  (78, false, .istore 4, 2, 0, 0, 0, 0, 0) ::
  cl_88_2
def cl_88_0 : List mj_E := (0, false, .aload_n 0, 1, 0, 0, 0, 0, 0) ::
  (1, false, .getfield 84, 3, 8, 5, 0, 0, 0) ::
  (4, false, .istore_n 3, 1, 0, 0, 0, 0, 0) ::
  (5, true, .iload_n 2, 1, 0, 0, 0, 0, 0) ::
  (6, false, .ifCond .ge 11, 3, 9, 0, 0, 0, 0) ::
  (9, false, .aload_n 0, 1, 0, 0, 0, 0, 0) ::
  (10, false, .iload_n 1, 1, 0, 0, 0, 0, 0) ::
  (11, false, .invokevirtual 88, 3, 89, 1, 8, 0, 0) ::
  (14, false, .goto 4, 3, 10, 0, 0, 0, 0) ::
  (17, false, .iload_n 1, 1, 0, 0, 0, 0, 0) ::
  (18, false, .istore 4, 2, 0, 0, 0, 0, 0) ::
  (20, true, .iload_n 2, 1, 0, 0, 0, 0, 0) ::
  (21, false, .ifCond .ge 18, 3, 24, 0, 0, 0, 0) ::
  (24, false, .iload_n 2, 1, 0, 0, 0, 0, 0) ::
  (25, false, .i2l, 1, 0, 0, 0, 0, 0) ::
  (26, false, .lneg, 1, 0, 0, 0, 0, 0) ::
  (27, false, .aload_n 0, 1, 0, 0, 0, 0, 0) ::
  (28, false, .getfield 24, 3, 8, 6, 2, 0, 0) ::
  (31, false, .iload_n 1, 1, 0, 0, 0, 0, 0) ::
  (32, false, .saload, 1, 0, 0, 0, 0, 0) ::
  (33, false, .i2l, 1, 0, 0, 0, 0, 0) ::
  (34, false, .lrem, 1, 0, 0, 0, 0, 0) ::
  (35, false, .l2i, 1, 0, 0, 0, 0, 0) ::
  (36, false, .goto 11, 3, 30, 0, 0, 0, 0) ::
  cl_88_1
def cd_88 : List mj_E := cl_88_0
def cx_88 : mj_X := (1, [], [])
theorem tb_88 : mj_tab (mj_mt 88) cx_88 cd_88 mj_mh [(0, 0, 0), (2079, 0, 0), (0, 0, 0), (0, 0, 0), (0, 0, 0), (0, 0, 0), (0, 0, 0), (4162, 0, 0), (0, 0, 0), (0, 0, 0), (0, 0, 0), (0, 0, 0), (0, 0, 0), (0, 0, 0), (0, 0, 0), (0, 0, 0), (0, 0, 0), (2081, 0, 0), (0, 0, 0), (0, 0, 0), (0, 0, 0), (0, 0, 0), (0, 0, 0), (0, 0, 0), (0, 0, 0), (0, 0, 0), (2081, 0, 0), (0, 0, 0), (0, 0, 0), (0, 0, 0), (0, 0, 0), (0, 0, 0), (0, 0, 0), (0, 0, 0), (0, 0, 0), (0, 0, 0), (0, 0, 0), (0, 0, 0), (0, 0, 0), (0, 0, 0), (0, 0, 0), (4111, 0, 0), (0, 0, 0), (0, 0, 0), (0, 0, 0), (0, 0, 0), (4111, 0, 0), (0, 0, 0), (0, 0, 0), (0, 0, 0), (0, 0, 0), (0, 0, 0), (0, 0, 0), (0, 0, 0), (0, 0, 0)] = true := mj_tab_f (by decide +kernel)
theorem ct_88 (G : mj_G) {h : mj_H} (L : isLay h) {d w : Int} {n : Nat} {A : Nat → pI} {nxt : Nat → Nat} {cls : Nat → Int} {cnt : Nat} {nm : Nat → Nat} (T : isTF d w n A nxt cls cnt nm) (hT : isTB h d w n A cls cnt nm) {o : Fin cnt → Nat} (hG : isGr T o h) (ho : ∀ x, isOrd (mulC T) (oneC T) x (o x) ∧ o x ≤ 4096) (x : Fin cnt) {t : Int} (ht : -2147483648 ≤ t ∧ t < 2147483648) : mj_Ct G (mj_mt 88) 0 0 [.ref 52, .int (jI x.val), .int (jI t)] h (fun oc h' => oc = .returned (some (.int (jI (pw (mulC T) (oneC T) x (t % (o x : Int)).toNat).val))) ∧ Fr inGt noT h h') := by
  have Gp := gpC T
  obtain ⟨hx1, hx2⟩ := ho x
  have hx0 := hx1.1
  have hcnt := T.1.2.2.2.2.2.1
  have hxl := x.isLt
  generalize hres : pw (mulC T) (oneC T) x (t % (o x : Int)).toNat = res
  refine mj_Ct_of mj_ok tb_88 rfl rfl (Nat.le_of_ble_eq_true rfl) (fun Run hR => ?_)
  have loop : ∀ (m : Nat) (p s : Fin cnt) (l : Nat) (pI sI lI : Int32) (h' : mj_H), l ≤ m → l < 2147483648 → mulC T p (pw (mulC T) (oneC T) s l) = res → Fr inGt noT h h' → pI = jI p.val → sI = jI s.val → lI = jI l → Run 49 [some (.ref 52), some (.int (jI x.val)), some (.int (jI t)), some (.int pI), some (.int sI), some (.int lI)] [] h' (0, 0) := by
    intro m
    induction m with
    | zero =>
      rintro p s l pI sI lI h' hm hl he F rfl rfl rfl
      refine hR 60 31 _ _ _ _ _ _ rfl ?_
      refine ⟨fun c => ?_, fun c => ?_⟩
      · refine ⟨?_, F⟩
        have : l = 0 := by omega
        subst this
        rw [← he]
        rw [show pw (mulC T) (oneC T) s 0 = oneC T from rfl, gp_e Gp]
      · simp (disch := omega) only [mj_lcm, jI_lt, jI_le, jI_eq, jL_lt, jL_le, jL_eq, jI_lt0, jI_0le, jI_0lt, jI_le0, jI_eq0, jL_eq0, jI_L, jI_add, jI_sub, jI_mul, jI_neg, jL_add, jL_sub, jL_mul, jL_neg, jL_I, jI_div, jI_mod, jL_div, jL_mod] at c
        omega
    | succ m ih =>
      rintro p s l pI sI lI h' hm hl he F rfl rfl rfl
      have L0 := L.F F (fun _ z => z.elim)
      have hT0 := hT.F F (by omega)
      refine hR 60 31 _ _ _ _ _ _ rfl ?_
      refine ⟨fun c => ?_, fun c => ?_⟩
      · simp (disch := omega) only [mj_lcm, jI_lt, jI_le, jI_eq, jL_lt, jL_le, jL_eq, jI_lt0, jI_0le, jI_0lt, jI_le0, jI_eq0, jL_eq0, jI_L, jI_add, jI_sub, jI_mul, jI_neg, jL_add, jL_sub, jL_mul, jL_neg, jL_I, jI_div, jI_mod, jL_div, jL_mod] at c
        refine ⟨?_, F⟩
        have : l = 0 := by omega
        subst this
        rw [← he]
        rw [show pw (mulC T) (oneC T) s 0 = oneC T from rfl, gp_e Gp]
      · simp (disch := omega) only [mj_lcm, jI_lt, jI_le, jI_eq, jL_lt, jL_le, jL_eq, jI_lt0, jI_0le, jI_0lt, jI_le0, jI_eq0, jL_eq0, jI_L, jI_add, jI_sub, jI_mul, jI_neg, jL_add, jL_sub, jL_mul, jL_neg, jL_I, jI_div, jI_mod, jL_div, jL_mod] at c
        have e1 : jI (l : Int) &&& jI 1 = jI ((l : Int) % 2) := jI_mask (k := 1) (by decide) rfl
        have esh : jI (l : Int) >>> (jI 1 &&& 31) = jI ((l / 2 : Nat) : Int) := by
          rw [jI_shr (K := 1) 1 (by decide) rfl (by omega) (by omega)]
          congr 1
        have r80 : ∀ (p' s' : Fin cnt) (h2 : mj_H), mulC T p' (pw (mulC T) (oneC T) s' (l / 2)) = res → Fr inGt noT h h2 → Run 80 [some (.ref 52), some (.int (jI x.val)), some (.int (jI t)), some (.int (jI p'.val)), some (.int (jI s'.val)), some (.int (jI l))] [] h2 (0, 0) := by
          intro p' s' h2 he2 F2
          refine hR 60 48 _ _ _ _ _ _ rfl ?_
          exact ih p' s' (l / 2) _ _ _ h2 (by omega) (by omega) he2 F2 rfl rfl esh
        have r70 : ∀ (p' : Fin cnt) (h2 : mj_H), mulC T p' (pw (mulC T) (oneC T) (mulC T s s) (l / 2)) = res → Fr inGt noT h h2 → Run 70 [some (.ref 52), some (.int (jI x.val)), some (.int (jI t)), some (.int (jI p'.val)), some (.int (jI s.val)), some (.int (jI l))] [] h2 (0, 0) := by
          intro p' h2 he2 F2
          have L2 := L.F F2 (fun _ z => z.elim)
          have hT2 := hT.F F2 (by omega)
          refine hR 60 43 _ _ _ _ _ _ rfl ?_
          refine ⟨L2.K 52 rfl, jcallP (ct_78 G L2 T hT2 s s) ?_⟩
          rintro oo h3 ⟨rfl, F3⟩
          exact r80 p' (mulC T s s) h3 he2 (F2.trans F3)
        rw [pw_half Gp] at he
        refine ⟨fun c2 => ?_, fun c2 => ?_⟩
        · rw [e1] at c2
          simp (disch := omega) only [mj_lcm, jI_lt, jI_le, jI_eq, jL_lt, jL_le, jL_eq, jI_lt0, jI_0le, jI_0lt, jI_le0, jI_eq0, jL_eq0, jI_L, jI_add, jI_sub, jI_mul, jI_neg, jL_add, jL_sub, jL_mul, jL_neg, jL_I, jI_div, jI_mod, jL_div, jL_mod] at c2
          rw [if_pos (by omega)] at he
          refine ⟨L0.K 52 rfl, jcallP (ct_78 G L0 T hT0 p s) ?_⟩
          rintro oo h3 ⟨rfl, F3⟩
          exact r70 (mulC T p s) h3 he (F.trans F3)
        · rw [e1] at c2
          simp (disch := omega) only [mj_lcm, jI_lt, jI_le, jI_eq, jL_lt, jL_le, jL_eq, jI_lt0, jI_0le, jI_0lt, jI_le0, jI_eq0, jL_eq0, jI_L, jI_add, jI_sub, jI_mul, jI_neg, jL_add, jL_sub, jL_mul, jL_neg, jL_I, jI_div, jI_mod, jL_div, jL_mod] at c2
          rw [if_neg (by omega)] at he
          exact r70 p h' he F
  have vin : ∀ {h' : mj_H}, isLay h' → vp_in (jI x.val) (hN h' 61) := by
    intro h' L'
    rw [show hN h' 61 = 4096 from L'.N 60 rfl]
    exact jI_in (by omega) (by omega) (by omega)
  have nat : (jI (x.val : Int)).toNatClampNeg = x.val := by rw [jI_nat (by omega) (by omega), Int.toNat_natCast]
  have r20 : ∀ (s : Fin cnt) (sI : Int32) (h' : mj_H) (x5 : Option Value), ((0 ≤ t ∧ s = x) ∨ (t < 0 ∧ mulC T x s = oneC T)) → Fr inGt noT h h' → sI = jI s.val → Run 20 [some (.ref 52), some (.int (jI x.val)), some (.int (jI t)), some (.int (jI (oneC T).val)), some (.int sI), x5] [] h' (0, 0) := by
    rintro s sI h' x5 hs F rfl
    have L0 := L.F F (fun _ z => z.elim)
    have ho' : hI h' 61 x.val = jI (o x) := (F.I (by omega) _).trans (hG.2 x)
    have fin : ∀ (l : Nat) (lI : Int32), l < 2147483648 → pw (mulC T) (oneC T) s l = res → lI = jI l → Run 49 [some (.ref 52), some (.int (jI x.val)), some (.int (jI t)), some (.int (jI (oneC T).val)), some (.int (jI s.val)), some (.int lI)] [] h' (0, 0) := by
      intro l lI hl he el
      exact loop l (oneC T) s l _ _ lI h' (Nat.le_refl _) hl (by rw [Gp.2.2.1]; exact he) F rfl rfl el
    refine hR 60 11 _ _ _ _ _ _ rfl ?_
    refine ⟨fun c => ?_, fun c => ?_⟩
    · simp (disch := omega) only [mj_lcm, jI_lt, jI_le, jI_eq, jL_lt, jL_le, jL_eq, jI_lt0, jI_0le, jI_0lt, jI_le0, jI_eq0, jL_eq0, jI_L, jI_add, jI_sub, jI_mul, jI_neg, jL_add, jL_sub, jL_mul, jL_neg, jL_I, jI_div, jI_mod, jL_div, jL_mod] at c
      refine ⟨L0.K 52 rfl, _, L0.R 52 6 _ rfl, L0.K 61 rfl, vin L0, ?_⟩
      rw [nat, ho']
      refine ⟨?_, ?_⟩
      · simp (disch := omega) only [mj_lcm, jI_lt, jI_le, jI_eq, jL_lt, jL_le, jL_eq, jI_lt0, jI_0le, jI_0lt, jI_le0, jI_eq0, jL_eq0, jI_L, jI_add, jI_sub, jI_mul, jI_neg, jL_add, jL_sub, jL_mul, jL_neg, jL_I, jI_div, jI_mod, jL_div, jL_mod]
        omega
      · have hm0 : 0 ≤ t % (o x : Int) := Int.emod_nonneg _ (by omega)
        have hm1 : t % (o x : Int) < o x := Int.emod_lt_of_pos _ (by omega)
        refine fin (t % (o x : Int)).toNat _ (by omega) ?_ ?_
        · rcases hs with ⟨-, rfl⟩ | ⟨z, -⟩
          · exact hres
          · omega
        · rw [jI_mod (by omega) (by omega) (by omega) (by omega), Int.tmod_eq_emod_of_nonneg c]
          congr 1
          omega
    · simp (disch := omega) only [mj_lcm, jI_lt, jI_le, jI_eq, jL_lt, jL_le, jL_eq, jI_lt0, jI_0le, jI_0lt, jI_le0, jI_eq0, jL_eq0, jI_L, jI_add, jI_sub, jI_mul, jI_neg, jL_add, jL_sub, jL_mul, jL_neg, jL_I, jI_div, jI_mod, jL_div, jL_mod] at c
      refine ⟨L0.K 52 rfl, _, L0.R 52 6 _ rfl, L0.K 61 rfl, vin L0, ?_⟩
      rw [nat, ho']
      refine ⟨?_, ?_⟩
      · rw [jI_L (by omega) (by omega)]
        simp (disch := omega) only [mj_lcm, jI_lt, jI_le, jI_eq, jL_lt, jL_le, jL_eq, jI_lt0, jI_0le, jI_0lt, jI_le0, jI_eq0, jL_eq0, jI_L, jI_add, jI_sub, jI_mul, jI_neg, jL_add, jL_sub, jL_mul, jL_neg, jL_I, jI_div, jI_mod, jL_div, jL_mod]
        omega
      · have hm0 : 0 ≤ t % (o x : Int) := Int.emod_nonneg _ (by omega)
        have hm1 : t % (o x : Int) < o x := Int.emod_lt_of_pos _ (by omega)
        have hk0 : 0 ≤ -t % (o x : Int) := Int.emod_nonneg _ (by omega)
        have hk1 : -t % (o x : Int) < o x := Int.emod_lt_of_pos _ (by omega)
        refine fin (-t % (o x : Int)).toNat _ (by omega) ?_ ?_
        · rcases hs with ⟨z, -⟩ | ⟨-, z⟩
          · omega
          · rw [← hres]
            refine pw_invmod Gp z hx1 ?_
            have h1 : (o x : Int) ∣ -t % (o x : Int) + t % (o x : Int) := by
              refine Int.dvd_of_emod_eq_zero ?_
              rw [← Int.add_emod, Int.add_left_neg, Int.zero_emod]
            have h2 : (((-t % (o x : Int)).toNat + (t % (o x : Int)).toNat : Nat) : Int) = -t % (o x : Int) + t % (o x : Int) := by omega
            rw [← h2] at h1
            exact Int.natCast_dvd_natCast.1 h1
        · rw [jI_L (by omega) (by omega), jI_L (by omega) (by omega), jL_neg, jL_mod (by omega) (by omega) (by omega) (by omega), jL_I, Int.tmod_eq_emod_of_nonneg (by omega)]
          congr 1
          omega
  have r5 : ∀ (x4 x5 : Option Value), Run 5 [some (.ref 52), some (.int (jI x.val)), some (.int (jI t)), some (.int (jI (oneC T).val)), x4, x5] [] h (0, 0) := by
    intro x4 x5
    refine hR 60 3 _ _ _ _ _ _ rfl ?_
    refine ⟨fun c => ?_, fun c => ?_⟩
    · simp (disch := omega) only [mj_lcm, jI_lt, jI_le, jI_eq, jL_lt, jL_le, jL_eq, jI_lt0, jI_0le, jI_0lt, jI_le0, jI_eq0, jL_eq0, jI_L, jI_add, jI_sub, jI_mul, jI_neg, jL_add, jL_sub, jL_mul, jL_neg, jL_I, jI_div, jI_mod, jL_div, jL_mod] at c
      exact r20 x _ h _ (Or.inl ⟨c, rfl⟩) (Fr.refl _ _ _) rfl
    · simp (disch := omega) only [mj_lcm, jI_lt, jI_le, jI_eq, jL_lt, jL_le, jL_eq, jI_lt0, jI_0le, jI_0lt, jI_le0, jI_eq0, jL_eq0, jI_L, jI_add, jI_sub, jI_mul, jI_neg, jL_add, jL_sub, jL_mul, jL_neg, jL_I, jI_div, jI_mod, jL_div, jL_mod] at c
      refine ⟨L.K 52 rfl, jcallP (ct_89 G L T hT x) ?_⟩
      rintro oo h2 ⟨⟨z, z1, rfl⟩, F2⟩
      exact r20 z _ h2 _ (Or.inr ⟨by omega, z1⟩) F2 rfl
  refine hR 60 0 _ _ _ _ _ _ rfl ?_
  refine ⟨L.K 52 rfl, ?_⟩
  have := r5 none none
  rw [← hG.1] at this
  exact this
