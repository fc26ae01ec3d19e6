/-! the model: inverses, orders, and what lies apart -/
section
variable {d w : Int} {n : Nat} {A : Nat → pI} {nxt : Nat → Nat} {cls : Nat → Int} {cnt : Nat} {nm : Nat → Nat}
/-- the principal class and the orders lie in the model -/
def isMg (T : isTF d w n A nxt cls cnt nm) (o : Fin cnt → Nat) (h : mj_H) : Prop := hI h 1412 14 = jI (oneC T).val ∧ ∀ x : Fin cnt, hI h 1417 x.val = jI (o x)
theorem isMg.M {I J S : Nat → Prop} {h h' : mj_H} (f : FrM I J S h h') {T : isTF d w n A nxt cls cnt nm} {o : Fin cnt → Nat} (a : isMg T o h) (h1 : ¬ I 14) (h2 : ¬ S 1417) : isMg T o h' := ⟨(f.2.2.1 14 h1).trans a.1, fun x => (f.I (by decide) h2 _).trans (a.2 x)⟩
def isMs {cnt : Nat} (st : gS cnt) (h : mj_H) : Prop := hI h 1412 15 = jI st.2.2.length ∧ hI h 1412 12 = jI st.1.length ∧ (st.1.length ≤ 4096 ∧ st.2.2.length ≤ 8 ∧ cnt ≤ 4096) ∧ (∀ i y, st.1[i]? = some y → hI h 1420 i = jI y.val) ∧ (∀ y : Fin cnt, hI h 1419 y.val = jI (if y ∈ st.1 then 1 else 0)) ∧ (∀ y : Fin cnt, y ∈ st.1 → ∀ i, i < 8 → hI h 1418 (8 * y.val + i) = jI (st.2.1 y i) ∧ st.2.1 y i < 32768) ∧ ∀ i g, st.2.2[i]? = some g → hI h 1421 i = jI g.val
theorem isMs.M {I J S : Nat → Prop} {h h' : mj_H} (f : FrM I J S h h') {cnt : Nat} {st : gS cnt} (a : isMs st h) (h1 : ¬ I 15 ∧ ¬ I 12) (hs : ∀ x, 1418 ≤ x ∧ x ≤ 1421 → ¬ S x) : isMs st h' := by
  obtain ⟨a1, a2, a3, a4, a5, a6, a7⟩ := a
  exact ⟨(f.2.2.1 15 h1.1).trans a1, (f.2.2.1 12 h1.2).trans a2, a3, fun i y hy => (f.I (by decide) (hs 1420 (by omega)) _).trans (a4 i y hy), fun y => (f.I (by decide) (hs 1419 (by omega)) _).trans (a5 y), fun y hy i hi => ⟨(f.I (by decide) (hs 1418 (by omega)) _).trans (a6 y hy i hi).1, (a6 y hy i hi).2⟩, fun i g hg => (f.I (by decide) (hs 1421 (by omega)) _).trans (a7 i g hg)⟩
/-- FormHouseModel.turned(I)I; cuts at [5, 14] -/
def cd_269 : List mj_E := [(0, false, .aload_n 0, 1, 0, 0, 0, 0, 0),
  (1, false, .iload_n 1, 1, 0, 0, 0, 0, 0),
  (2, false, .invokevirtual 185, 3, 205, 1, 17, 0, 0),
  (5, true, .aload_n 0, 1, 0, 0, 0, 0, 0),
  (6, false, .aload_n 0, 1, 0, 0, 0, 0, 0),
  (7, false, .getfield 135, 3, 17, 51, 1, 0, 0),
  (10, false, .lneg, 1, 0, 0, 0, 0, 0),
  (11, false, .putfield 135, 3, 17, 51, 1, 0, 0),
  (14, true, .aload_n 0, 1, 0, 0, 0, 0, 0),
  (15, false, .invokevirtual 195, 3, 202, 0, 17, 0, 0),
  (18, false, .ireturn, 1, 0, 0, 0, 0, 0)]
def cx_269 : mj_X := (1, [], [])
theorem tb_269 : mj_tab (mj_mt 269) cx_269 cd_269 mj_mh [(0, 0, 0), (0, 0, 0), (7026, 0, 0), (0, 0, 0), (0, 0, 0), (7150, 0, 0), (0, 0, 0), (7150, 0, 0), (0, 0, 0), (7014, 0, 0), (0, 0, 0)] = true := mj_tab_f (by decide +kernel)
theorem ct_269 (G : mj_G) {h : mj_H} (L : isLam h) (T : isTF d w n A nxt cls cnt nm) (hw : wdP d w) (hT : isMT h d w n A cls cnt nm) (x : Fin cnt) : mj_Ct G (mj_mt 269) 0 0 [.ref 1412, .int (jI x.val)] h (fun o h' => (∃ z : Fin cnt, mulC T x z = oneC T ∧ o = .returned (some (.int (jI z.val)))) ∧ FrM noT jF noT h h') := by
  obtain ⟨⟨hnsq, hdd, hd, hwb, hn, hcnt, hS, hx⟩, hv, hcl, hnm, heq, hred, hring, hall⟩ := id T
  have hd0 : d ≠ 0 := by
    intro z
    rcases hw with q | q <;> omega
  obtain ⟨m1, -⟩ := hnm x.val x.isLt
  have vf := tf_vld T x.isLt
  have okf : okF (nmF d A nm x.val) := tf_ok T m1
  obtain ⟨f, hf⟩ : ∃ f, f = nmF d A nm x.val := ⟨_, rfl⟩
  rw [← hf] at vf okf
  have vi := inv_vld vf
  have oki : okF (f.1, -f.2.1, f.2.2) := by
    obtain ⟨o1, o2, o3, o4⟩ := okf
    exact ⟨o1, by show _ < -f.2.1 ∧ -f.2.1 < _; omega, o3, o4⟩
  refine mj_Ct_of mj_ok tb_269 rfl rfl (Nat.le_of_ble_eq_true rfl) (fun Run hR => ?_)
  have r14 : ∀ h', isMm h' (f.1, -f.2.1, f.2.2) → FrM noT jF noT h h' → Run 14 [some (.ref 1412), some (.int (jI x.val))] [] h' (0, 0) := by
    intro h' hm F'
    obtain ⟨m, -, t2, k, t3, t4⟩ := hred _ vi oki
    have L' := F'.lay L
    have hT' := hT.M F' ⟨fun z => z, fun z => z⟩ (by omega) (fun _ _ z => z)
    refine hR 60 8 _ _ _ _ _ _ rfl ?_
    refine ⟨L'.K 1412 rfl, jcallP (ct_202 G L' hT'.1 hS hT'.2.1 hT'.2.2 (by omega) hd0 hwb hm t2 (fun z => posT_of z m _ vi t2) t3 (by rw [t4]; exact ⟨rfl, rfl⟩)) ?_⟩
    rintro o h3 ⟨rfl, -, F3⟩
    obtain ⟨c, c1, c2, c3⟩ := tf_place T t3
    have e1 : Eqv (f.1, -f.2.1, f.2.2) (fmP d (A k)) := t4 ▸ (it_eqv hnsq m _ vi.1).1
    have e2 := eqv_trans e1 c3
    rw [hf] at e2
    exact ⟨⟨⟨c, c1⟩, invC T e2, by rw [c2]⟩, F'.trans F3⟩
  have r5 : ∀ h', isMm h' f → FrM noT jF noT h h' → Run 5 [some (.ref 1412), some (.int (jI x.val))] [] h' (0, 0) := by
    intro h' hm F'
    have L' := F'.lay L
    refine hR 60 3 _ _ _ _ _ _ rfl ?_
    refine ⟨L'.K 1412 rfl, L'.K 1412 rfl, ?_⟩
    refine r14 _ ⟨hm.1, ?_, hm.2.2⟩ (F'.fJ (by omega) _)
    refine (sJ_at _ _ _ _).trans ?_
    rw [hm.2.1, jL_neg]
  refine hR 60 0 _ _ _ _ _ _ rfl ?_
  refine ⟨L.K 1412 rfl, jcallP (ct_205 G L hT.1 hT.2.1 hT.2.2 (by omega) x.isLt hcnt m1 (hx _ m1).2.1) ?_⟩
  rintro o h3 ⟨rfl, m3, F3⟩
  exact r5 h3 (hf ▸ m3) F3
/-- no power but the principal class is made -/
def aptT (T : isTF d w n A nxt cls cnt nm) (o : Fin cnt → Nat) (mem : List (Fin cnt)) (x : Fin cnt) : Prop := x ≠ oneC T ∧ ∀ i, 0 < i → i < o x → ¬ pw (mulC T) (oneC T) x i ∈ mem
/-- FormHouseModel.isApart(I)Z; cuts at [10, 12, 31] -/
def cd_211 : List mj_E := [(0, false, .iload_n 1, 1, 0, 0, 0, 0, 0),
  (1, false, .aload_n 0, 1, 0, 0, 0, 0, 0),
  (2, false, .getfield 201, 3, 17, 14, 0, 0, 0),
  (5, false, .if_icmp .ne 5, 3, 6, 0, 0, 0, 0),
  (8, false, .iconst 0, 1, 0, 0, 0, jI 0, 0),
  (9, false, .ireturn, 1, 0, 0, 0, 0, 0),
  (10, true, .iload_n 1, 1, 0, 0, 0, 0, 0),
  (11, false, .istore_n 2, 1, 0, 0, 0, 0, 0),
  (12, true, .iload_n 2, 1, 0, 0, 0, 0, 0),
  (13, false, .aload_n 0, 1, 0, 0, 0, 0, 0),
  (14, false, .getfield 201, 3, 17, 14, 0, 0, 0),
  (17, false, .if_icmp .eq 24, 3, 25, 0, 0, 0, 0),
  (20, false, .aload_n 0, 1, 0, 0, 0, 0, 0),
  (21, false, .getfield 41, 3, 17, 11, 2, 0, 0),
  (24, false, .iload_n 2, 1, 0, 0, 0, 0, 0),
  (25, false, .baload, 1, 0, 0, 0, 0, 0),
  (26, false, .ifCond .eq 5, 3, 19, 0, 0, 0, 0),
  (29, false, .iconst 0, 1, 0, 0, 0, jI 0, 0),
  (30, false, .ireturn, 1, 0, 0, 0, 0, 0),
  (31, true, .aload_n 0, 1, 0, 0, 0, 0, 0),
  (32, false, .iload_n 2, 1, 0, 0, 0, 0, 0),
  (33, false, .iload_n 1, 1, 0, 0, 0, 0, 0),
  (34, false, .invokevirtual 204, 3, 204, 2, 17, 0, 0),
  (37, false, .istore_n 2, 1, 0, 0, 0, 0, 0),
  (38, false, .goto (-26), 3, 8, 0, 0, 0, 0),
  (41, false, .iconst 1, 1, 0, 0, 0, jI 1, 0),
  (42, false, .ireturn, 1, 0, 0, 0, 0, 0)]
def cx_211 : mj_X := (4, [], [])
theorem tb_211 : mj_tab (mj_mt 211) cx_211 cd_211 mj_mh [(0, 0, 0), (0, 0, 0), (7113, 0, 0), (0, 0, 0), (0, 0, 0), (0, 0, 0), (0, 0, 0), (0, 0, 0), (0, 0, 0), (0, 0, 0), (7113, 0, 0), (0, 0, 0), (0, 0, 0), (7110, 0, 0), (0, 0, 0), (0, 0, 0), (0, 0, 0), (0, 0, 0), (0, 0, 0), (0, 0, 0), (0, 0, 0), (0, 0, 0), (7022, 0, 0), (0, 0, 0), (0, 0, 0), (0, 0, 0), (0, 0, 0)] = true := mj_tab_f (by decide +kernel)
theorem ct_211 (G : mj_G) {h : mj_H} (L : isLam h) (T : isTF d w n A nxt cls cnt nm) (hw : wdP d w) (hfr : isFr d A cnt nm) (hT : isMT h d w n A cls cnt nm) {o : Fin cnt → Nat} (hP : hI h 1412 14 = jI (oneC T).val) (ho : ∀ x, isOrd (mulC T) (oneC T) x (o x) ∧ o x ≤ 4096) {mem : List (Fin cnt)} (hm : ∀ y : Fin cnt, hI h 1419 y.val = jI (if y ∈ mem then 1 else 0)) (x : Fin cnt) : mj_Ct G (mj_mt 211) 0 0 [.ref 1412, .int (jI x.val)] h (fun oc h' => (∃ v : Int, oc = .returned (some (.int (jI v))) ∧ ((v = 1 ∧ aptT T o mem x) ∨ (v = 0 ∧ ¬ aptT T o mem x))) ∧ FrM noT jF noT h h') := by
  have Gp := gpC T
  obtain ⟨hx1, hx2⟩ := ho x
  have hcnt := T.1.2.2.2.2.2.1
  have hxl := x.isLt
  have h1l := (oneC T).isLt
  refine mj_Ct_of mj_ok tb_211 rfl rfl (Nat.le_of_ble_eq_true rfl) (fun Run hR => ?_)
  have r12 : ∀ (m i : Nat) (p : Fin cnt) (pI' : Int32) (h' : mj_H), i + m = o x → 0 < i → p = pw (mulC T) (oneC T) x i → x ≠ oneC T → (∀ j, 0 < j → j < i → ¬ pw (mulC T) (oneC T) x j ∈ mem) → FrM noT jF noT h h' → pI' = jI p.val → Run 12 [some (.ref 1412), some (.int (jI x.val)), some (.int pI')] [] h' (0, 0) := by
    intro m
    induction m with
    | zero =>
      rintro i p pI' h' hi i0 hp hx0 hj F rfl
      have L' := F.lay L
      have e14 : hI h' 1412 14 = jI (oneC T).val := (F.2.2.1 14 (fun z => z)).trans hP
      have hp1 : p = oneC T := by
        rw [hp, show i = o x by omega]
        exact hx1.2.1
      refine hR 60 8 _ _ _ _ _ _ rfl ?_
      refine ⟨L'.K 1412 rfl, fun c => ?_, fun c => ?_⟩
      · refine ⟨Or.inr rfl, ⟨1, rfl, Or.inl ⟨rfl, hx0, fun j j0 j1 => hj j j0 (by omega)⟩⟩, F⟩
      · rw [e14, hp1] at c
        exact absurd rfl c
    | succ m ih =>
      rintro i p pI' h' hi i0 hp hx0 hj F rfl
      have L' := F.lay L
      have e14 : hI h' 1412 14 = jI (oneC T).val := (F.2.2.1 14 (fun z => z)).trans hP
      have hpl := p.isLt
      have e19 : hI h' 1419 (jI (p.val : Int)).toNatClampNeg = jI (if p ∈ mem then 1 else 0) := by
        rw [jI_nat (by omega) (by omega), Int.toNat_natCast]
        exact (F.I (by decide) (fun z => z) _).trans (hm p)
      have vin : vp_in (jI (p.val : Int)) (hN h' 1419) := by
        rw [show hN h' 1419 = 4096 from L'.N 1418 rfl]
        exact jI_in (by omega) (by omega) (by omega)
      have hT' := hT.M F ⟨fun z => z, fun z => z⟩ (by omega) (fun _ _ z => z)
      have r31 : ¬ p ∈ mem → Run 31 [some (.ref 1412), some (.int (jI x.val)), some (.int (jI p.val))] [] h' (0, 0) := by
        intro hpm
        refine hR 60 19 _ _ _ _ _ _ rfl ?_
        refine ⟨L'.K 1412 rfl, jcallP (ct_204 G L' T hw hfr hT' p x) ?_⟩
        rintro oc h3 ⟨rfl, F3⟩
        refine ih (i + 1) (mulC T p x) _ h3 (by omega) (by omega) (by rw [hp]; rfl) hx0 (fun j j0 j1 => ?_) (F.trans F3) rfl
        by_cases z : j = i
        · rw [z, ← hp]
          exact hpm
        · exact hj j j0 (by omega)
      refine hR 60 8 _ _ _ _ _ _ rfl ?_
      refine ⟨L'.K 1412 rfl, fun c => ?_, fun c => ⟨L'.K 1412 rfl, _, L'.R 1412 11 _ rfl, L'.K 1419 rfl, vin, ?_⟩⟩
      · exfalso
        rw [e14, jI_eq (by omega) (by omega) (by omega) (by omega)] at c
        have : p = oneC T := Fin.ext (by omega)
        rw [hp] at this
        exact hx1.2.2 i i0 (by omega) this
      · rw [e19]
        by_cases hpm : p ∈ mem
        · rw [if_pos hpm]
          refine ⟨fun c2 => absurd c2 (by decide), fun c2 => ?_⟩
          refine ⟨Or.inl rfl, ⟨0, rfl, Or.inr ⟨rfl, fun z => ?_⟩⟩, F⟩
          exact z.2 i i0 (by omega) (hp ▸ hpm)
        · rw [if_neg hpm]
          exact ⟨fun c2 => r31 hpm, fun c2 => absurd rfl c2⟩
  have r10 : x ≠ oneC T → ∀ x2 : Option Value, Run 10 [some (.ref 1412), some (.int (jI x.val)), x2] [] h (0, 0) := by
    intro hx0 x2
    refine hR 60 6 _ _ _ _ _ _ rfl ?_
    refine r12 (o x - 1) 1 x _ h (by have := hx1.1; omega) (by decide) (pw_one Gp x).symm hx0 (fun j j0 j1 => by omega) (FrM.refl _ _ _ h) rfl
  refine hR 60 0 _ _ _ _ _ _ rfl ?_
  refine ⟨L.K 1412 rfl, fun c => ?_, fun c => ?_⟩
  · rw [hP, jI_eq (by omega) (by omega) (by omega) (by omega)] at c
    refine ⟨Or.inl rfl, ⟨0, rfl, Or.inr ⟨rfl, fun z => z.1 (Fin.ext (by omega))⟩⟩, FrM.refl _ _ _ h⟩
  · rw [hP, jI_eq (by omega) (by omega) (by omega) (by omega)] at c
    exact r10 (fun z => c (by rw [z])) _
abbrev iMe (k : Nat) : Prop := k = 12
abbrev sMe (k : Nat) : Prop := k = 1417 ∨ k = 1420
/-- FormHouseModel.measure(I)V; cuts at [10, 17, 45, 47, 55, 84] -/
def cl_203_2 : List mj_E := (78, false, .invokestatic 166, 3, 197, 2, 0, 0, 0) ::
  (81, false, .l2i, 1, 0, 0, 0, 0, 0) ::
  (82, false, .idiv, 1, 0, 0, 0, 0, 0) ::
  (83, false, .iastore, 1, 0, 0, 0, 0, 0) ::
  (84, true, .iinc 3 1, 3, 0, 0, 0, jI 1, 0) ::
  (87, false, .goto (-40), 3, 29, 0, 0, 0, 0) ::
  (90, false, .return_, 1, 0, 0, 0, 0, 0) ::
  []
def cl_203_1 : List mj_E := (38, false, .aload_n 0, 1, 0, 0, 0, 0, 0) ::
  (39, false, .getfield 201, 3, 17, 14, 0, 0, 0) ::
  (42, false, .if_icmp .ne (-32), 3, 6, 0, 0, 0, 0) ::
  (45, true, .iconst 1, 1, 0, 0, 0, jI 1, 0) ::
  (46, false, .istore_n 3, 1, 0, 0, 0, 0, 0) ::
  (47, true, .iload_n 3, 1, 0, 0, 0, 0, 0) ::
  (48, false, .aload_n 0, 1, 0, 0, 0, 0, 0) ::
  (49, false, .getfield 198, 3, 17, 12, 0, 0, 0) ::
  (52, false, .if_icmp .gt 38, 3, 54, 0, 0, 0, 0) ::
  (55, true, .aload_n 0, 1, 0, 0, 0, 0, 0) ::
  (56, false, .getfield 34, 3, 17, 9, 2, 0, 0) ::
  (59, false, .aload_n 0, 1, 0, 0, 0, 0, 0) ::
  (60, false, .getfield 45, 3, 17, 13, 2, 0, 0) ::
  (63, false, .iload_n 3, 1, 0, 0, 0, 0, 0) ::
  (64, false, .iconst 1, 1, 0, 0, 0, jI 1, 0) ::
  (65, false, .isub, 1, 0, 0, 0, 0, 0) ::
  (66, false, .iaload, 1, 0, 0, 0, 0, 0) ::
  (67, false, .aload_n 0, 1, 0, 0, 0, 0, 0) ::
  (68, false, .getfield 198, 3, 17, 12, 0, 0, 0) ::
  (71, false, .aload_n 0, 1, 0, 0, 0, 0, 0) ::
  (72, false, .getfield 198, 3, 17, 12, 0, 0, 0) ::
  (75, false, .i2l, 1, 0, 0, 0, 0, 0) ::
  (76, false, .iload_n 3, 1, 0, 0, 0, 0, 0) ::
  (77, false, .i2l, 1, 0, 0, 0, 0, 0) ::
  cl_203_2
def cl_203_0 : List mj_E := (0, false, .aload_n 0, 1, 0, 0, 0, 0, 0) ::
  (1, false, .iconst 0, 1, 0, 0, 0, jI 0, 0) ::
  (2, false, .putfield 198, 3, 17, 12, 0, 0, 0) ::
  (5, false, .aload_n 0, 1, 0, 0, 0, 0, 0) ::
  (6, false, .getfield 201, 3, 17, 14, 0, 0, 0) ::
  (9, false, .istore_n 2, 1, 0, 0, 0, 0, 0) ::
  (10, true, .aload_n 0, 1, 0, 0, 0, 0, 0) ::
  (11, false, .iload_n 2, 1, 0, 0, 0, 0, 0) ::
  (12, false, .iload_n 1, 1, 0, 0, 0, 0, 0) ::
  (13, false, .invokevirtual 204, 3, 204, 2, 17, 0, 0) ::
  (16, false, .istore_n 2, 1, 0, 0, 0, 0, 0) ::
  (17, true, .aload_n 0, 1, 0, 0, 0, 0, 0) ::
  (18, false, .getfield 45, 3, 17, 13, 2, 0, 0) ::
  (21, false, .aload_n 0, 1, 0, 0, 0, 0, 0) ::
  (22, false, .getfield 198, 3, 17, 12, 0, 0, 0) ::
  (25, false, .iload_n 2, 1, 0, 0, 0, 0, 0) ::
  (26, false, .iastore, 1, 0, 0, 0, 0, 0) ::
  (27, false, .aload_n 0, 1, 0, 0, 0, 0, 0) ::
  (28, false, .dup, 1, 0, 0, 0, 0, 0) ::
  (29, false, .getfield 198, 3, 17, 12, 0, 0, 0) ::
  (32, false, .iconst 1, 1, 0, 0, 0, jI 1, 0) ::
  (33, false, .iadd, 1, 0, 0, 0, 0, 0) ::
  (34, false, .putfield 198, 3, 17, 12, 0, 0, 0) ::
  (37, false, .iload_n 2, 1, 0, 0, 0, 0, 0) ::
  cl_203_1
def cd_203 : List mj_E := cl_203_0
def cx_203 : mj_X := (0, [], [])
theorem tb_203 : mj_tab (mj_mt 203) cx_203 cd_203 mj_mh [(0, 0, 0), (0, 0, 0), (7111, 0, 0), (0, 0, 0), (7113, 0, 0), (0, 0, 0), (0, 0, 0), (0, 0, 0), (0, 0, 0), (7022, 0, 0), (0, 0, 0), (0, 0, 0), (7112, 0, 0), (0, 0, 0), (7111, 0, 0), (0, 0, 0), (0, 0, 0), (0, 0, 0), (0, 0, 0), (7111, 0, 0), (0, 0, 0), (0, 0, 0), (7111, 0, 0), (0, 0, 0), (0, 0, 0), (7113, 0, 0), (0, 0, 0), (0, 0, 0), (0, 0, 0), (0, 0, 0), (0, 0, 0), (7111, 0, 0), (0, 0, 0), (0, 0, 0), (7108, 0, 0), (0, 0, 0), (7112, 0, 0), (0, 0, 0), (0, 0, 0), (0, 0, 0), (0, 0, 0), (0, 0, 0), (7111, 0, 0), (0, 0, 0), (7111, 0, 0), (0, 0, 0), (0, 0, 0), (0, 0, 0), (6236, 0, 0), (0, 0, 0), (0, 0, 0), (0, 0, 0), (0, 0, 0), (0, 0, 0), (0, 0, 0)] = true := mj_tab_f (by decide +kernel)
theorem ct_203 (G : mj_G) {h : mj_H} (L : isLam h) (T : isTF d w n A nxt cls cnt nm) (hw : wdP d w) (hfr : isFr d A cnt nm) (hT : isMT h d w n A cls cnt nm) {o : Fin cnt → Nat} (hP : hI h 1412 14 = jI (oneC T).val) (ho : ∀ x, isOrd (mulC T) (oneC T) x (o x) ∧ o x ≤ 4096) (x : Fin cnt) : mj_Ct G (mj_mt 203) 0 0 [.ref 1412, .int (jI x.val)] h (fun oc h' => oc = .returned none ∧ (∀ i, hI h' 1417 (pw (mulC T) (oneC T) x i).val = jI (o (pw (mulC T) (oneC T) x i))) ∧ (∀ y : Fin cnt, hI h' 1417 y.val = hI h 1417 y.val ∨ hI h' 1417 y.val = jI (o y)) ∧ FrM iMe jF sMe h h') := by
  have Gp := gpC T
  obtain ⟨hx1, hx2⟩ := ho x
  have hcnt := T.1.2.2.2.2.2.1
  have hxl := x.isLt
  have h1l := (oneC T).isLt
  have ordp : ∀ i, o (pw (mulC T) (oneC T) x i) = o x / Nat.gcd (o x) i := fun i => ord_unique (ho _).1 (ord_pw Gp hx1 i)
  refine mj_Ct_of mj_ok tb_203 rfl rfl (Nat.le_of_ble_eq_true rfl) (fun Run hR => ?_)
  have r47 : ∀ (m i : Nat) (iI : Int32) (h' : mj_H) (x2 : Int32), i + m = o x + 1 → 0 < i → FrM iMe jF sMe h h' → hI h' 1412 12 = jI (o x) → (∀ j, j < o x → hI h' 1420 j = jI (pw (mulC T) (oneC T) x (j + 1)).val) → (∀ j, 0 < j → j < i → hI h' 1417 (pw (mulC T) (oneC T) x j).val = jI (o (pw (mulC T) (oneC T) x j))) → (∀ y : Fin cnt, hI h' 1417 y.val = hI h 1417 y.val ∨ hI h' 1417 y.val = jI (o y)) → iI = jI i → Run 47 [some (.ref 1412), some (.int (jI x.val)), some (.int x2), some (.int iI)] [] h' (0, 0) := by
    intro m
    induction m with
    | zero =>
      rintro i iI h' x2 hi i0 F h12 h20 h17 hor rfl
      have L' := F.lay L
      refine hR 60 29 _ _ _ _ _ _ rfl ?_
      refine ⟨L'.K 1412 rfl, fun c => ?_, fun c => ?_⟩
      · refine ⟨rfl, fun k => ?_, hor, F⟩
        by_cases hk : k % o x = 0
        · have e : pw (mulC T) (oneC T) x k = pw (mulC T) (oneC T) x (o x) := by
            rw [← ord_mod Gp hx1 k, hk, hx1.2.1]
            rfl
          rw [e]
          exact h17 (o x) hx1.1 (by omega)
        · rw [← ord_mod Gp hx1 k]
          exact h17 _ (by omega) (by have := Nat.mod_lt k hx1.1; omega)
      · rw [h12] at c
        simp (disch := omega) only [mj_lcm, jI_lt, jI_le, jI_eq, jL_lt, jL_le, jL_eq, jI_lt0, jI_0le, jI_0lt, jI_le0, jI_eq0, jL_eq0, jI_L, jI_add, jI_sub, jI_mul, jI_neg, jL_add, jL_sub, jL_mul, jL_neg, jL_I, jI_div, jI_mod, jL_div, jL_mod] at c
        omega
    | succ m ih =>
      rintro i iI h' x2 hi i0 F h12 h20 h17 hor rfl
      have L' := F.lay L
      obtain ⟨j, hj⟩ : ∃ j, i = j + 1 := ⟨i - 1, by omega⟩
      have e20 : hI h' 1420 (jI (i : Int) - jI 1).toNatClampNeg = jI (pw (mulC T) (oneC T) x i).val := by
        rw [jI_sub, show ((i : Int) - 1) = (j : Int) by omega, jI_nat (by omega) (by omega), Int.toNat_natCast, hj]
        exact h20 j (by omega)
      have v20 : vp_in (jI (i : Int) - jI 1) (hN h' 1420) := by
        rw [show hN h' 1420 = 4096 from L'.N 1419 rfl, jI_sub]
        exact jI_in (by omega) (by omega) (by omega)
      have hpl := (pw (mulC T) (oneC T) x i).isLt
      have hgl : Nat.gcd (o x) i ≤ o x := Nat.le_of_dvd hx1.1 (Nat.gcd_dvd_left _ _)
      have hg0 : 0 < Nat.gcd (o x) i := Nat.gcd_pos_of_pos_left _ hx1.1
      have c197 := ct_197 G (x := (o x : Int)) (y := (i : Int)) (by omega) (by omega) (by omega) (by omega) h'
      rw [Int.gcd_natCast_natCast, ← jI_L (a := (i : Int)) (by omega) (by omega), ← jI_L (a := (o x : Int)) (by omega) (by omega), ← h12] at c197
      have eq1 : jI (o x : Int) / (jL (Nat.gcd (o x) i : Int)).toInt32 = jI (o (pw (mulC T) (oneC T) x i)) := by
        rw [jL_I, jI_div (by omega) (by omega) (by omega) (by omega), Int.tdiv_eq_ediv_of_nonneg (by omega), ordp i]
        rfl
      have r84 : ∀ (h3 : mj_H), FrM iMe jF sMe h h3 → hI h3 1412 12 = jI (o x) → (∀ j, j < o x → hI h3 1420 j = jI (pw (mulC T) (oneC T) x (j + 1)).val) → (∀ j, 0 < j → j < i + 1 → hI h3 1417 (pw (mulC T) (oneC T) x j).val = jI (o (pw (mulC T) (oneC T) x j))) → (∀ y : Fin cnt, hI h3 1417 y.val = hI h 1417 y.val ∨ hI h3 1417 y.val = jI (o y)) → Run 84 [some (.ref 1412), some (.int (jI x.val)), some (.int x2), some (.int (jI i))] [] h3 (0, 0) := by
        intro h3 F3 g12 g20 g17 gor
        refine hR 60 52 _ _ _ _ _ _ rfl ?_
        exact ih (i + 1) _ h3 _ (by omega) (by omega) F3 g12 g20 g17 gor (by rw [jI_add]; rfl)
      have r55 : Run 55 [some (.ref 1412), some (.int (jI x.val)), some (.int x2), some (.int (jI i))] [] h' (0, 0) := by
        refine hR 60 33 _ _ _ _ _ _ rfl ?_
        refine ⟨L'.K 1412 rfl, _, L'.R 1412 9 _ rfl, L'.K 1412 rfl, _, L'.R 1412 13 _ rfl, Or.inl (L'.K 1420 rfl), v20, L'.K 1412 rfl, L'.K 1412 rfl, jcall c197 ?_⟩
        refine ⟨?_, L'.K 1417 rfl, ?_, ?_⟩
        · rw [jL_I]
          simp (disch := omega) only [mj_lcm, jI_lt, jI_le, jI_eq, jL_lt, jL_le, jL_eq, jI_lt0, jI_0le, jI_0lt, jI_le0, jI_eq0, jL_eq0, jI_L, jI_add, jI_sub, jI_mul, jI_neg, jL_add, jL_sub, jL_mul, jL_neg, jL_I, jI_div, jI_mod, jL_div, jL_mod]
          omega
        · rw [e20, show hN h' 1417 = 4096 from L'.N 1416 rfl]
          exact jI_in (by omega) (by omega) (by omega)
        · rw [e20, h12, eq1, jI_nat (by omega) (by omega), Int.toNat_natCast]
          refine r84 _ ?_ ?_ ?_ ?_ ?_
          · exact F.aI (c := 1417) (Or.inl rfl) (by decide) _ _
          · exact h12
          · intro j hj
            exact h20 j hj
          · intro j j0 j1
            by_cases z : (pw (mulC T) (oneC T) x j).val = (pw (mulC T) (oneC T) x i).val
            · rw [show pw (mulC T) (oneC T) x j = pw (mulC T) (oneC T) x i from Fin.ext z]
              exact sI_at _ _ _ _
            · refine (sI_k _ _ z _).trans (h17 j j0 ?_)
              by_cases y : j = i
              · rw [y] at z
                exact absurd rfl z
              · omega
          · intro y
            by_cases z : y.val = (pw (mulC T) (oneC T) x i).val
            · right
              rw [show y = pw (mulC T) (oneC T) x i from Fin.ext z]
              exact sI_at _ _ _ _
            · rcases hor y with e | e
              · exact Or.inl ((sI_k _ _ z _).trans e)
              · exact Or.inr ((sI_k _ _ z _).trans e)
      refine hR 60 29 _ _ _ _ _ _ rfl ?_
      refine ⟨L'.K 1412 rfl, fun c => ?_, fun c => r55⟩
      rw [h12] at c
      simp (disch := omega) only [mj_lcm, jI_lt, jI_le, jI_eq, jL_lt, jL_le, jL_eq, jI_lt0, jI_0le, jI_0lt, jI_le0, jI_eq0, jL_eq0, jI_L, jI_add, jI_sub, jI_mul, jI_neg, jL_add, jL_sub, jL_mul, jL_neg, jL_I, jI_div, jI_mod, jL_div, jL_mod] at c
      omega
  have r10 : ∀ (m i : Nat) (p : Fin cnt) (pI' : Int32) (h' : mj_H) (x3 : Option Value), i + m = o x → 0 < m → p = pw (mulC T) (oneC T) x i → FrM iMe jF sMe h h' → hI h' 1412 12 = jI i → (∀ j, j < i → hI h' 1420 j = jI (pw (mulC T) (oneC T) x (j + 1)).val) → h'.1 1417 = h.1 1417 → pI' = jI p.val → Run 10 [some (.ref 1412), some (.int (jI x.val)), some (.int pI'), x3] [] h' (0, 0) := by
    intro m
    induction m with
    | zero => intro i p pI' h' x3 hi h0; omega
    | succ m ih =>
      rintro i p pI' h' x3 hi h0 hp F h12 h20 h17 rfl
      have L' := F.lay L
      have hT' := hT.M F ⟨by omega, by omega⟩ (by omega) (fun _ _ => by omega)
      have r17 : ∀ (h3 : mj_H), FrM iMe jF sMe h h3 → hI h3 1412 12 = jI i → (∀ j, j < i → hI h3 1420 j = jI (pw (mulC T) (oneC T) x (j + 1)).val) → h3.1 1417 = h.1 1417 → Run 17 [some (.ref 1412), some (.int (jI x.val)), some (.int (jI (pw (mulC T) (oneC T) x (i + 1)).val)), x3] [] h3 (0, 0) := by
        intro h3 F3 g12 g20 g17
        have L3 := F3.lay L
        have hql := (pw (mulC T) (oneC T) x (i + 1)).isLt
        have e14 : hI h3 1412 14 = jI (oneC T).val := (F3.2.2.1 14 (by omega)).trans hP
        have vin : vp_in (hI h3 1412 12) (hN h3 1420) := by
          rw [g12, show hN h3 1420 = 4096 from L3.N 1419 rfl]
          exact jI_in (by omega) (by omega) (by omega)
        have nat : (hI h3 1412 12).toNatClampNeg = i := by rw [g12, jI_nat (by omega) (by omega), Int.toNat_natCast]
        have F4 : FrM iMe jF sMe h (sI (sI h3 1420 i (jI (pw (mulC T) (oneC T) x (i + 1)).val)) 1412 12 (jI (i + 1 : Nat))) := (F3.aI (by omega) (by decide) _ _).fI (by omega) _
        have k12 : hI (sI (sI h3 1420 i (jI (pw (mulC T) (oneC T) x (i + 1)).val)) 1412 12 (jI (i + 1 : Nat))) 1412 12 = jI (i + 1 : Nat) := sI_at _ _ _ _
        have k20 : ∀ j, j < i + 1 → hI (sI (sI h3 1420 i (jI (pw (mulC T) (oneC T) x (i + 1)).val)) 1412 12 (jI (i + 1 : Nat))) 1420 j = jI (pw (mulC T) (oneC T) x (j + 1)).val := by
          intro j hj
          refine (congrFun (sI_a _ (by decide) _ _) j).trans ?_
          by_cases z : j = i
          · rw [z]
            exact sI_at _ _ _ _
          · exact (sI_k _ _ z _).trans (g20 j (by omega))
        have k17 : (sI (sI h3 1420 i (jI (pw (mulC T) (oneC T) x (i + 1)).val)) 1412 12 (jI (i + 1 : Nat))).1 1417 = h.1 1417 := ((sI_a _ (by decide) _ _).trans (sI_a _ (by decide) _ _)).trans g17
        have e5 : sI (sI h3 1420 (hI h3 1412 12).toNatClampNeg (jI (pw (mulC T) (oneC T) x (i + 1)).val)) 1412 12 (hI (sI h3 1420 (hI h3 1412 12).toNatClampNeg (jI (pw (mulC T) (oneC T) x (i + 1)).val)) 1412 12 + jI 1) = sI (sI h3 1420 i (jI (pw (mulC T) (oneC T) x (i + 1)).val)) 1412 12 (jI (i + 1 : Nat)) := by
          rw [nat, show hI (sI h3 1420 i (jI (pw (mulC T) (oneC T) x (i + 1)).val)) 1412 12 = jI i from g12, jI_add]
          rfl
        refine hR 60 11 _ _ _ _ _ _ rfl ?_
        refine ⟨L3.K 1412 rfl, _, L3.R 1412 13 _ rfl, L3.K 1412 rfl, L3.K 1420 rfl, vin, L3.K 1412 rfl, L3.K 1412 rfl, L3.K 1412 rfl, ?_⟩
        refine ⟨fun c => ?_, fun c => ?_⟩
        · have c' : jI (pw (mulC T) (oneC T) x (i + 1)).val = hI h3 1412 14 := c
          rw [e14, jI_eq (by omega) (by omega) (by omega) (by omega)] at c'
          have hpe : pw (mulC T) (oneC T) x (i + 1) = oneC T := Fin.ext (by omega)
          have hio : i + 1 = o x := by
            by_cases z : i + 1 = o x
            · exact z
            · exact absurd hpe (hx1.2.2 (i + 1) (by omega) (by omega))
          rw [e5]
          refine hR 60 27 _ _ _ _ _ _ rfl ?_
          refine r47 (o x) 1 _ _ _ (by omega) (by decide) F4 (by rw [k12, hio]) (fun j hj => k20 j (by omega)) (fun j j0 j1 => by omega) (fun y => Or.inl (congrFun k17 _)) rfl
        · have c' : ¬ jI (pw (mulC T) (oneC T) x (i + 1)).val = hI h3 1412 14 := c
          rw [e14, jI_eq (by omega) (by omega) (by omega) (by omega)] at c'
          have hio : i + 1 ≠ o x := by
            intro z
            apply c'
            rw [z, hx1.2.1]
          rw [e5]
          exact ih (i + 1) (pw (mulC T) (oneC T) x (i + 1)) _ _ _ (by omega) (by omega) rfl F4 k12 k20 k17 rfl
      refine hR 60 6 _ _ _ _ _ _ rfl ?_
      refine ⟨L'.K 1412 rfl, jcallP (ct_204 G L' T hw hfr hT' p x) ?_⟩
      rintro oc h3 ⟨rfl, F3⟩
      have F3' : FrM iMe jF sMe h' h3 := F3.mono (fun _ z => z.elim) (fun _ z => z) (fun _ z => z.elim)
      rw [show mulC T p x = pw (mulC T) (oneC T) x (i + 1) by rw [hp]; rfl]
      exact r17 h3 (F.trans F3') ((F3.2.2.1 12 (fun z => z)).trans h12) (fun j hj => (F3.I (by decide) (fun z => z) _).trans (h20 j hj)) ((F3.2.1 1417 (by decide) (fun z => z)).1.trans h17)
  refine hR 60 0 _ _ _ _ _ _ rfl ?_
  refine ⟨L.K 1412 rfl, L.K 1412 rfl, ?_⟩
  refine r10 (o x) 0 (oneC T) _ _ _ (by omega) hx1.1 rfl ((FrM.refl _ _ _ h).fI (by omega) _) (sI_at _ _ _ _) (fun j hj => by omega) (sI_a _ (by decide) _ _) ?_
  exact hP
end
