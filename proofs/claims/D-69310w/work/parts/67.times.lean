/-! the classes of a table make a group; contracts: products and inverses of classes -/
/-- what is to be known of a table -/
def isTF (d w : Int) (n : Nat) (A : Nat → pI) (nxt : Nat → Nat) (cls : Nat → Int) (cnt : Nat) (nm : Nat → Nat) : Prop :=
  (nsq d ∧ isDd d ∧ (-1048576 ≤ d ∧ d ≤ 1048576) ∧ (-1 ≤ w ∧ w < 2147483648) ∧ n ≤ 40960 ∧ cnt ≤ 4096 ∧ sst n A ∧ isNx d w n A nxt) ∧
  (∀ i, i < n → Vld d (fmP d (A i)) ∧ rdF d w (fmP d (A i)) = true ∧ (-1024 ≤ (A i).1 ∧ (A i).1 ≤ 1024) ∧ (-1024 ≤ (A i).2 ∧ (A i).2 ≤ 1024)) ∧
  (∀ i, i < n → ∃ c, c < cnt ∧ cls i = (c : Nat)) ∧ (∀ c, c < cnt → nm c < n ∧ cls (nm c) = (c : Nat)) ∧
  (∀ i j, i < n → j < n → (Eqv (fmP d (A i)) (fmP d (A j)) ↔ cls i = cls j)) ∧
  (∀ F, Vld d F → okF F → ∃ m, m < 2147483648 ∧ trm d w m F ∧ ∃ k, k < n ∧ itF d w m F = fmP d (A k)) ∧
  (0 < d → ∀ k, k < n → ∃ N, isRing d w (fmP d (A k)) N) ∧
  (∀ F, Vld d F → ∃ k, k < n ∧ Eqv F (fmP d (A k)))
/-- the form of a class's name -/
def nmF (d : Int) (A : Nat → pI) (nm : Nat → Nat) (c : Nat) : Fm := fmP d (A (nm c))
/-- a form's class -/
def ofC (d : Int) (A : Nat → pI) (nm : Nat → Nat) (F : Fm) (c : Nat) : Prop := Eqv F (nmF d A nm c)
section
variable {d w : Int} {n : Nat} {A : Nat → pI} {nxt : Nat → Nat} {cls : Nat → Int} {cnt : Nat} {nm : Nat → Nat}
theorem tf_vld (T : isTF d w n A nxt cls cnt nm) {c : Nat} (hc : c < cnt) : Vld d (nmF d A nm c) := (T.2.1 _ (T.2.2.2.1 c hc).1).1
theorem tf_place (T : isTF d w n A nxt cls cnt nm) {k : Nat} (hk : k < n) : ∃ c, c < cnt ∧ cls k = (c : Nat) ∧ ofC d A nm (fmP d (A k)) c := by
  obtain ⟨c, c1, c2⟩ := T.2.2.1 k hk
  obtain ⟨m1, m2⟩ := T.2.2.2.1 c c1
  exact ⟨c, c1, c2, (T.2.2.2.2.1 k (nm c) hk m1).2 (by rw [c2, m2])⟩
theorem tf_of (T : isTF d w n A nxt cls cnt nm) {F : Fm} (hF : Vld d F) : ∃ c, c < cnt ∧ ofC d A nm F c := by
  obtain ⟨k, k1, k2⟩ := T.2.2.2.2.2.2.2 F hF
  obtain ⟨c, c1, -, c3⟩ := tf_place T k1
  exact ⟨c, c1, eqv_trans k2 c3⟩
theorem tf_uniq (T : isTF d w n A nxt cls cnt nm) {F : Fm} {c c' : Nat} (hc : c < cnt) (hc' : c' < cnt) (h : ofC d A nm F c) (h' : ofC d A nm F c') : c = c' := by
  obtain ⟨m1, m2⟩ := T.2.2.2.1 c hc
  obtain ⟨m3, m4⟩ := T.2.2.2.1 c' hc'
  have := (T.2.2.2.2.1 (nm c) (nm c') m1 m3).1 (eqv_trans (eqv_symm h) h')
  rw [m2, m4] at this
  exact Int.ofNat_inj.1 this
theorem tf_mulex (T : isTF d w n A nxt cls cnt nm) (x y : Fin cnt) : ∃ z : Fin cnt, ∃ F, Cmp (nmF d A nm x.val) (nmF d A nm y.val) F ∧ ofC d A nm F z.val := by
  obtain ⟨F, h1, h2⟩ := cmp_ex T.1.1 (tf_vld T x.isLt) (tf_vld T y.isLt)
  obtain ⟨c, c1, c2⟩ := tf_of T h2
  exact ⟨⟨c, c1⟩, F, h1, c2⟩
/-- the product of two classes -/
noncomputable def mulC (T : isTF d w n A nxt cls cnt nm) (x y : Fin cnt) : Fin cnt := Classical.choose (tf_mulex T x y)
theorem mulC_spec (T : isTF d w n A nxt cls cnt nm) (x y : Fin cnt) : ∃ F, Cmp (nmF d A nm x.val) (nmF d A nm y.val) F ∧ ofC d A nm F (mulC T x y).val := Classical.choose_spec (tf_mulex T x y)
theorem mulC_eq (T : isTF d w n A nxt cls cnt nm) {x y z : Fin cnt} {F : Fm} (h1 : Cmp (nmF d A nm x.val) (nmF d A nm y.val) F) (h2 : ofC d A nm F z.val) : mulC T x y = z := by
  obtain ⟨F', g1, g2⟩ := mulC_spec T x y
  have he := cmp_unique (tf_vld T x.isLt).2.1 g1 h1
  exact Fin.ext (tf_uniq T (mulC T x y).isLt z.isLt g2 (eqv_trans he h2))
theorem tf_onex (T : isTF d w n A nxt cls cnt nm) : ∃ z : Fin cnt, ofC d A nm (prF d) z.val := by
  obtain ⟨c, c1, c2⟩ := tf_of T (prF_vld T.1.2.1)
  exact ⟨⟨c, c1⟩, c2⟩
noncomputable def oneC (T : isTF d w n A nxt cls cnt nm) : Fin cnt := Classical.choose (tf_onex T)
theorem oneC_spec (T : isTF d w n A nxt cls cnt nm) : ofC d A nm (prF d) (oneC T).val := Classical.choose_spec (tf_onex T)
theorem inv_vld {f : Fm} (h : Vld d f) : Vld d (f.1, -f.2.1, f.2.2) := by
  obtain ⟨h1, ⟨u, v, w, h2⟩, h3⟩ := h
  refine ⟨?_, ⟨u, -v, w, ?_⟩, h3⟩
  · simp only [dF] at h1 ⊢
    rw [Int.neg_mul_neg]
    exact h1
  · simp only
    rw [Int.neg_mul_neg]
    exact h2
theorem gpC (T : isTF d w n A nxt cls cnt nm) : isGp (mulC T) (oneC T) := by
  refine ⟨fun x y z => ?_, fun x y => ?_, fun x => ?_, fun x => ?_⟩
  · obtain ⟨F1, a1, a2⟩ := mulC_spec T x y
    obtain ⟨F2, b1, b2⟩ := mulC_spec T (mulC T x y) z
    obtain ⟨F3, c1, c2⟩ := mulC_spec T y z
    obtain ⟨F4, d1, d2⟩ := mulC_spec T x (mulC T y z)
    have he := cmp_assoc T.1.1 (tf_vld T x.isLt) (tf_vld T y.isLt) (tf_vld T z.isLt) a1 (cmp_eqv1 b1 (eqv_symm a2)) c1 (cmp_eqv2 d1 (eqv_symm c2))
    exact Fin.ext (tf_uniq T (mulC T (mulC T x y) z).isLt (mulC T x (mulC T y z)).isLt b2 (eqv_trans he d2))
  · obtain ⟨F1, a1, a2⟩ := mulC_spec T y x
    exact mulC_eq T (cmp_comm a1) a2
  · have h1 := cmp_one T.1.2.1 (tf_vld T x.isLt).1
    exact mulC_eq T (cmp_eqv1 h1 (oneC_spec T)) (eqv_refl _)
  · have hv := tf_vld T x.isLt
    obtain ⟨c, c1, c2⟩ := tf_of T (inv_vld hv)
    refine ⟨⟨c, c1⟩, ?_⟩
    have h1 := cmp_inv T.1.2.1 hv.1
    exact mulC_eq T (cmp_eqv2 h1 c2) (oneC_spec T)
theorem finC (cnt : Nat) : finG (Fin cnt) cnt := ⟨fun x => x.val, fun x => x.isLt, fun x y h => Fin.ext h⟩
/-- the inverse of a class -/
theorem invC (T : isTF d w n A nxt cls cnt nm) {x z : Fin cnt} (h : ofC d A nm ((nmF d A nm x.val).1, -(nmF d A nm x.val).2.1, (nmF d A nm x.val).2.2) z.val) : mulC T x z = oneC T := mulC_eq T (cmp_eqv2 (cmp_inv T.1.2.1 (tf_vld T x.isLt).1) h) (oneC_spec T)
end
/-- the table lies in the heap -/
def isTB (h : mj_H) (d w : Int) (n : Nat) (A : Nat → pI) (cls : Nat → Int) (cnt : Nat) (nm : Nat → Nat) : Prop := isTa h n A ∧ isCl h n cls cnt nm ∧ isRr h 7 d w
theorem isTB.F {S T : Nat → Prop} {h h' : mj_H} (f : Fr S T h h') {d w : Int} {n : Nat} {A : Nat → pI} {cls : Nat → Int} {cnt : Nat} {nm : Nat → Nat} (a : isTB h d w n A cls cnt nm) (hs : ∀ x, x = 7 ∨ (46 ≤ x ∧ x ≤ 50) → ¬ S x) : isTB h' d w n A cls cnt nm := by
  obtain ⟨a1, a2, a3⟩ := a
  exact ⟨ta_fr a1 (f.I (hs 46 (by omega)) _) (f.2.1 47 (hs 47 (by omega))).1 (f.2.1 48 (hs 48 (by omega))).1, a2.fr (f.I (hs 46 (by omega)) _) (f.2.1 49 (hs 49 (by omega))).1 (f.2.1 50 (hs 50 (by omega))).1, a3.F f (hs 7 (by omega))⟩
theorem ct_79' (G : mj_G) {h : mj_H} (L : isLay h) {d w : Int} {n : Nat} {A : Nat → pI} {nxt : Nat → Nat} {cls : Nat → Int} {cnt : Nat} {nm : Nat → Nat} (T : isTF d w n A nxt cls cnt nm) (hT : isTB h d w n A cls cnt nm) {c f : Nat} (hc : c < cnt) (hf : hK h f = 16) : mj_Ct G (mj_mt 79) 0 0 [.ref 46, .int (jI c), .ref f] h (jV (sFm h f (nmF d A nm c))) := by
  obtain ⟨m1, m2⟩ := T.2.2.2.1 c hc
  have hcnt := T.1.2.2.2.2.2.1
  exact ct_79 G L hT.1.tl hT.2.2 (by have := T.1.2.2.1; omega) (by omega) (hT.2.1.2.2 c hc) (ta_at A m1) (T.1.2.2.2.2.2.2.2 (nm c) m1).2.1 hf
theorem tf_ok {d w : Int} {n : Nat} {A : Nat → pI} {nxt : Nat → Nat} {cls : Nat → Int} {cnt : Nat} {nm : Nat → Nat} (T : isTF d w n A nxt cls cnt nm) {k : Nat} (hk : k < n) : okF (fmP d (A k)) := (T.1.2.2.2.2.2.2.2 k hk).2.2.1
abbrev inGt (a : Nat) : Prop := 54 ≤ a ∧ a ≤ 60
/-- FormHouse$Group.times(II)I; cuts at [] -/
def cd_78 : List mj_E := [(0, false, .aload_n 0, 1, 0, 0, 0, 0, 0),
  (1, false, .getfield 46, 3, 8, 0, 2, 0, 0),
  (4, false, .iload_n 1, 1, 0, 0, 0, 0, 0),
  (5, false, .aload_n 0, 1, 0, 0, 0, 0, 0),
  (6, false, .getfield 12, 3, 8, 2, 2, 0, 0),
  (9, false, .invokevirtual 54, 3, 79, 2, 7, 0, 0),
  (12, false, .aload_n 0, 1, 0, 0, 0, 0, 0),
  (13, false, .getfield 46, 3, 8, 0, 2, 0, 0),
  (16, false, .iload_n 2, 1, 0, 0, 0, 0, 0),
  (17, false, .aload_n 0, 1, 0, 0, 0, 0, 0),
  (18, false, .getfield 18, 3, 8, 3, 2, 0, 0),
  (21, false, .invokevirtual 54, 3, 79, 2, 7, 0, 0),
  (24, false, .aload_n 0, 1, 0, 0, 0, 0, 0),
  (25, false, .getfield 50, 3, 8, 1, 2, 0, 0),
  (28, false, .aload_n 0, 1, 0, 0, 0, 0, 0),
  (29, false, .getfield 21, 3, 8, 4, 2, 0, 0),
  (32, false, .aload_n 0, 1, 0, 0, 0, 0, 0),
  (33, false, .getfield 12, 3, 8, 2, 2, 0, 0),
  (36, false, .aload_n 0, 1, 0, 0, 0, 0, 0),
  (37, false, .getfield 18, 3, 8, 3, 2, 0, 0),
  (40, false, .invokevirtual 60, 3, 80, 3, 9, 0, 0),
  (43, false, .aload_n 0, 1, 0, 0, 0, 0, 0),
  (44, false, .getfield 46, 3, 8, 0, 2, 0, 0),
  (47, false, .aload_n 0, 1, 0, 0, 0, 0, 0),
  (48, false, .getfield 21, 3, 8, 4, 2, 0, 0),
  (51, false, .invokevirtual 66, 3, 75, 1, 7, 0, 0),
  (54, false, .ireturn, 1, 0, 0, 0, 0, 0)]
def cx_78 : mj_X := (1, [], [])
theorem tb_78 : mj_tab (mj_mt 78) cx_78 cd_78 mj_mh [(0, 0, 0), (2074, 0, 0), (0, 0, 0), (0, 0, 0), (2076, 0, 0), (4115, 0, 0), (0, 0, 0), (2074, 0, 0), (0, 0, 0), (0, 0, 0), (2077, 0, 0), (4115, 0, 0), (0, 0, 0), (2075, 0, 0), (0, 0, 0), (2078, 0, 0), (0, 0, 0), (2076, 0, 0), (0, 0, 0), (2077, 0, 0), (4119, 0, 0), (0, 0, 0), (2074, 0, 0), (0, 0, 0), (2078, 0, 0), (4097, 0, 0), (0, 0, 0)] = true := mj_tab_f (by decide +kernel)
theorem ct_78 (G : mj_G) {h : mj_H} (L : isLay h) {d w : Int} {n : Nat} {A : Nat → pI} {nxt : Nat → Nat} {cls : Nat → Int} {cnt : Nat} {nm : Nat → Nat} (T : isTF d w n A nxt cls cnt nm) (hT : isTB h d w n A cls cnt nm) (x y : Fin cnt) : mj_Ct G (mj_mt 78) 0 0 [.ref 52, .int (jI x.val), .int (jI y.val)] h (fun o h' => o = .returned (some (.int (jI (mulC T x y).val))) ∧ Fr inGt noT h h') := by
  obtain ⟨⟨hnsq, hdd, hd, hw, hn, hcnt, hS, hx⟩, hv, hcl, hnm, heq, hred, hring, hall⟩ := id T
  refine mj_Ct_of mj_ok tb_78 rfl rfl (Nat.le_of_ble_eq_true rfl) (fun Run hR => ?_)
  refine hR 40 0 _ _ _ _ _ _ rfl ?_
  refine ⟨L.K 52 rfl, _, L.R 52 0 _ rfl, L.K 52 rfl, _, L.R 52 2 _ rfl, L.K 46 rfl, jcallV (ct_79' G L T hT x.isLt (L.K 58 rfl)) ?_⟩
  have q1 : Fr (fun a => a = 58) noT h (sFm h 58 (nmF d A nm x.val)) := (Fr.refl (fun a => a = 58) noT h).sFm rfl _
  have L1 := L.F q1 (fun _ z => z.elim)
  have hT1 := hT.F q1 (by omega)
  have g1 := isFm_sFm h (L.K 58 rfl) (nmF d A nm x.val)
  generalize sFm h 58 (nmF d A nm x.val) = h1 at q1 L1 hT1 g1
  refine ⟨L1.K 52 rfl, _, L1.R 52 0 _ rfl, L1.K 52 rfl, _, L1.R 52 3 _ rfl, L1.K 46 rfl, jcallV (ct_79' G L1 T hT1 y.isLt (L1.K 59 rfl)) ?_⟩
  have q2 : Fr (fun a => a = 59) noT h1 (sFm h1 59 (nmF d A nm y.val)) := (Fr.refl (fun a => a = 59) noT h1).sFm rfl _
  have L2 := L1.F q2 (fun _ z => z.elim)
  have hT2 := hT1.F q2 (by omega)
  have g2 := isFm_sFm h1 (L1.K 59 rfl) (nmF d A nm y.val)
  have g1' := g1.F q2 (by omega)
  generalize sFm h1 59 (nmF d A nm y.val) = h2 at q2 L2 hT2 g2 g1'
  obtain ⟨m1, -⟩ := hnm x.val x.isLt
  obtain ⟨m2, -⟩ := hnm y.val y.isLt
  have v1 := hv _ m1
  have v2 := hv _ m2
  refine ⟨L2.K 52 rfl, _, L2.R 52 1 _ rfl, L2.K 52 rfl, _, L2.R 52 4 _ rfl, L2.K 52 rfl, _, L2.R 52 2 _ rfl, L2.K 52 rfl, _, L2.R 52 3 _ rfl, L2.K 53 rfl, jcallP (ct_80 G L2 hT2.2.2 g1' g2 hd hnsq hw v1.1 v2.1 v1.2.2 v2.2.2 hx hred hring) ?_⟩
  rintro o h3 ⟨rfl, ⟨F, k, hc, hk, he, g3⟩, q3⟩
  have L3 := L2.F q3 (fun _ z => z.elim)
  have hT3 := hT2.F q3 (by omega)
  have c75 := ct_75 G L3 hT3.1 hS hT3.2.2 (by omega) hw hT3.2.1 (f := 60) (m := 0) (k := k) g3 (by decide) ⟨tf_ok T hk, (hv k hk).2.1⟩ (by decide) hk rfl rfl
  refine ⟨L3.K 52 rfl, _, L3.R 52 0 _ rfl, L3.K 52 rfl, _, L3.R 52 4 _ rfl, L3.K 46 rfl, jcallP c75 ?_⟩
  rintro o h4 ⟨rfl, rfl⟩
  obtain ⟨c, c1, c2, c3⟩ := tf_place T hk
  have hm : mulC T x y = ⟨c, c1⟩ := mulC_eq T hc (eqv_trans he c3)
  refine ⟨?_, ?_⟩
  · rw [hm, c2]
  · exact (((q1.mono (by intro a z; omega) (fun _ z => z)).trans (q2.mono (by intro a z; omega) (fun _ z => z))).trans (q3.mono (by intro a z; omega) (fun _ z => z))).sFm (by omega) _
