/-! contracts: pairs are moved -/
abbrev qFr (q : Nat) : List Nat := [3, 4, 86, 87, 88, 89, 93, 94, 95, 96, q + 1, q + 2, q + 3, q + 4]
theorem isLay.Q92 {h : mj_H} (L : isLay h) : isQ0 h 92 := ⟨L.K 92 rfl, L.R 92 0 _ rfl, L.R 92 1 _ rfl, L.W 93 rfl, L.W 95 rfl⟩
def stQ (a b c d : Int) (z : xI) : xI := trn (a * z.1 + b * z.2, c * z.1 + d * z.2)
def bdQ (a b c d : Int) (z : xI) : Prop := (a * z.1).natAbs + (b * z.2).natAbs < 4294967296 ^ 1024 ∧ (c * z.1).natAbs + (d * z.2).natAbs < 4294967296 ^ 1024
/-- FormHouse$Mover.goes(LFormHouse$Pair;LFormHouse$Whole;LFormHouse$Whole;LFormHouse$Whole;LFormHouse$Whole;LFormHouse$Reckoner;)Z; cuts at [] -/
def cl_164_1 : List mj_E := (48, false, .aload_n 0, 1, 0, 0, 0, 0, 0) ::
  (49, false, .getfield 25, 3, 15, 3, 2, 0, 0) ::
  (52, false, .invokevirtual 62, 3, 162, 0, 16, 0, 0) ::
  (55, false, .aload_n 0, 1, 0, 0, 0, 0, 0) ::
  (56, false, .getfield 25, 3, 15, 3, 2, 0, 0) ::
  (59, false, .aload_n 1, 1, 0, 0, 0, 0, 0) ::
  (60, false, .invokevirtual 81, 3, 166, 1, 16, 0, 0) ::
  (63, false, .ifCond .ne 5, 3, 34, 0, 0, 0, 0) ::
  (66, false, .iconst 0, 1, 0, 0, 0, jI 0, 0) ::
  (67, false, .ireturn, 1, 0, 0, 0, 0, 0) ::
  (68, false, .aload_n 1, 1, 0, 0, 0, 0, 0) ::
  (69, false, .aload_n 0, 1, 0, 0, 0, 0, 0) ::
  (70, false, .getfield 25, 3, 15, 3, 2, 0, 0) ::
  (73, false, .invokevirtual 85, 3, 167, 1, 16, 0, 0) ::
  (76, false, .iconst 1, 1, 0, 0, 0, jI 1, 0) ::
  (77, false, .ireturn, 1, 0, 0, 0, 0, 0) ::
  []
def cl_164_0 : List mj_E := (0, false, .aload_n 0, 1, 0, 0, 0, 0, 0) ::
  (1, false, .aload_n 0, 1, 0, 0, 0, 0, 0) ::
  (2, false, .getfield 25, 3, 15, 3, 2, 0, 0) ::
  (5, false, .getfield 47, 3, 16, 0, 2, 0, 0) ::
  (8, false, .aload_n 2, 1, 0, 0, 0, 0, 0) ::
  (9, false, .aload_n 1, 1, 0, 0, 0, 0, 0) ::
  (10, false, .getfield 47, 3, 16, 0, 2, 0, 0) ::
  (13, false, .aload_n 3, 1, 0, 0, 0, 0, 0) ::
  (14, false, .aload_n 1, 1, 0, 0, 0, 0, 0) ::
  (15, false, .getfield 59, 3, 16, 1, 2, 0, 0) ::
  (18, false, .aload 6, 2, 0, 0, 0, 0, 0) ::
  (20, false, .invokevirtual 77, 3, 165, 6, 15, 0, 0) ::
  (23, false, .aload_n 0, 1, 0, 0, 0, 0, 0) ::
  (24, false, .aload_n 0, 1, 0, 0, 0, 0, 0) ::
  (25, false, .getfield 25, 3, 15, 3, 2, 0, 0) ::
  (28, false, .getfield 59, 3, 16, 1, 2, 0, 0) ::
  (31, false, .aload 4, 2, 0, 0, 0, 0, 0) ::
  (33, false, .aload_n 1, 1, 0, 0, 0, 0, 0) ::
  (34, false, .getfield 47, 3, 16, 0, 2, 0, 0) ::
  (37, false, .aload 5, 2, 0, 0, 0, 0, 0) ::
  (39, false, .aload_n 1, 1, 0, 0, 0, 0, 0) ::
  (40, false, .getfield 59, 3, 16, 1, 2, 0, 0) ::
  (43, false, .aload 6, 2, 0, 0, 0, 0, 0) ::
  (45, false, .invokevirtual 77, 3, 165, 6, 15, 0, 0) ::
  cl_164_1
def cd_164 : List mj_E := cl_164_0
def cx_164 : mj_X := (4, [], [])
theorem tb_164 : mj_tab (mj_mt 164) cx_164 cd_164 mj_mh [(0, 0, 0), (0, 0, 0), (3028, 0, 0), (3015, 0, 0), (0, 0, 0), (0, 0, 0), (3015, 0, 0), (0, 0, 0), (0, 0, 0), (3018, 0, 0), (0, 0, 0), (6100, 0, 0), (0, 0, 0), (0, 0, 0), (3028, 0, 0), (3018, 0, 0), (0, 0, 0), (0, 0, 0), (3015, 0, 0), (0, 0, 0), (0, 0, 0), (3018, 0, 0), (0, 0, 0), (6100, 0, 0), (0, 0, 0), (3028, 0, 0), (6088, 0, 0), (0, 0, 0), (3028, 0, 0), (0, 0, 0), (6104, 0, 0), (0, 0, 0), (0, 0, 0), (0, 0, 0), (0, 0, 0), (0, 0, 0), (3028, 0, 0), (6109, 0, 0), (0, 0, 0), (0, 0, 0)] = true := mj_tab_f (by decide +kernel)
theorem ct_164 (G : mj_G) {h : mj_H} (L : isLay h) {q a b c d : Nat} {va vb vc vd : Int} {z : xI} (hq : isQ h q z) (hq1 : 131 < q) (ha : isW h a va) (hb : isW h b vb) (hc : isW h c vc) (hd : isW h d vd) (hne : (33 < a ∧ a < 45) ∧ (33 < b ∧ b < 45) ∧ (33 < c ∧ c < 45) ∧ (33 < d ∧ d < 45)) (hbd : bdQ va vb vc vd z) : mj_Ct G (mj_mt 164) 0 0 [.ref 85, .ref q, .ref a, .ref b, .ref c, .ref d, .ref 3] h (fun o h' => ((bfQ (stQ va vb vc vd z) z ∧ o = .returned (some (.int (jI 1))) ∧ isQ h' q (stQ va vb vc vd z)) ∨ (¬ bfQ (stQ va vb vc vd z) z ∧ o = .returned (some (.int (jI 0))) ∧ isQ h' q z)) ∧ FrI (qFr q) h h') := by
  obtain ⟨bd1, bd2⟩ := hbd
  have hq0 := hq
  obtain ⟨⟨k0, r0, r1, w0, w1⟩, vx, vy⟩ := hq
  refine mj_Ct_of mj_ok tb_164 rfl rfl (Nat.le_of_ble_eq_true rfl) (fun Run hR => ?_)
  have N0 := L.Q92
  refine hR 60 0 _ _ _ _ _ _ rfl ?_
  refine ⟨L.K 85 rfl, _, L.R 85 3 _ rfl, N0.1, _, N0.2.1, k0, _, r0, k0, _, r1, L.K 85 rfl, jcallP (ct_165 G L (t := 93) N0.2.2.2.1 ha vx hb vy (by omega) bd1) ?_⟩
  rintro o g1 ⟨rfl, v93, f1⟩
  have E1 := f1.1
  have L1 := L.fr E1
  have N1 := L1.Q92
  have hq1' := hq0.fr f1 (by simp; omega)
  refine ⟨L1.K 85 rfl, _, L1.R 85 3 _ rfl, N1.1, _, N1.2.2.1, (fK E1 _).trans k0, _, (fR E1 _ _).trans r0, (fK E1 _).trans k0, _, (fR E1 _ _).trans r1, L1.K 85 rfl, jcallP (ct_165 G L1 (t := 95) N1.2.2.2.2 (hc.fr f1 (by first | (simp; done) | (simp; omega) | omega) (by first | (simp; done) | (simp; omega) | omega)) hq1'.2.1 (hd.fr f1 (by first | (simp; done) | (simp; omega) | omega) (by first | (simp; done) | (simp; omega) | omega)) hq1'.2.2 (by omega) bd2) ?_⟩
  rintro o g2 ⟨rfl, v95, f2⟩
  have L2 := L1.fr f2.1
  have N2 := L2.Q92
  have hq2 := hq1'.fr f2 (by simp; omega)
  have hn2 : isQ g2 92 (va * z.1 + vb * z.2, vc * z.1 + vd * z.2) := ⟨N2, v93.fr f2 (by first | (simp; done) | (simp; omega) | omega) (by first | (simp; done) | (simp; omega) | omega), v95⟩
  refine ⟨L2.K 85 rfl, _, L2.R 85 3 _ rfl, N2.1, jcallP (ct_162 G hn2) ?_⟩
  rintro o g3 ⟨rfl, hn3, f3⟩
  have L3 := L2.fr f3.1
  have N3 := L3.Q92
  have hq3 := hq2.fr f3 (by simp; omega)
  have F3 : FrI (qFr q) h g3 := ((f1.trans f2).trans f3).mono (by simp)
  have hn3' : isQ g3 92 (stQ va vb vc vd z) := hn3
  refine ⟨L3.K 85 rfl, _, L3.R 85 3 _ rfl, N3.1, jcallP (ct_166 G hn3' hq3) ?_⟩
  rintro o h4 ⟨rfl, v, rfl, hv⟩
  rcases hv with ⟨rfl, hv⟩ | ⟨rfl, hv⟩
  · refine ⟨fun c1 => absurd c1 (by decide), fun c1 => ?_⟩
    refine ⟨L3.K 85 rfl, _, L3.R 85 3 _ rfl, hq3.1.1, jcallP (ct_167 G hq3.1 hn3' (by omega)) ?_⟩
    rintro o g5 ⟨rfl, hq5, f5⟩
    exact ⟨Or.inr rfl, Or.inl ⟨hv, rfl, hq5⟩, (F3.trans f5).mono (by simp)⟩
  · refine ⟨fun c1 => ?_, fun c1 => absurd rfl c1⟩
    exact ⟨Or.inl rfl, Or.inr ⟨hv, rfl, hq3⟩, F3⟩
/-- moves as long as that tells the family rather -/
def mvT (a b c d : Int) : Nat → xI → Prop
  | 0, z => bdQ a b c d z ∧ ¬ bfQ (stQ a b c d z) z
  | n + 1, z => bdQ a b c d z ∧ bfQ (stQ a b c d z) z ∧ mvT a b c d n (stQ a b c d z)
def itQ (a b c d : Int) : Nat → xI → xI
  | 0, z => z
  | n + 1, z => itQ a b c d n (stQ a b c d z)
abbrev mFr (q : Nat) : List Nat := [3, 4, 36, 38, 86, 87, 88, 89, 93, 94, 95, 96, q + 1, q + 2, q + 3, q + 4]
/-- FormHouse$Mover.move(LFormHouse$Pair;[LFormHouse$Whole;LFormHouse$Reckoner;)V; cuts at [3, 31, 38, 66] -/
def cl_163_2 : List mj_E := (70, false, .return_, 1, 0, 0, 0, 0, 0) ::
  []
def cl_163_1 : List mj_E := (35, false, .iconst 1, 1, 0, 0, 0, jI 1, 0) ::
  (36, false, .istore 4, 2, 0, 0, 0, 0, 0) ::
  (38, true, .iload 4, 2, 0, 0, 0, 0, 0) ::
  (40, false, .ifCond .eq 26, 3, 46, 0, 0, 0, 0) ::
  (43, false, .aload_n 0, 1, 0, 0, 0, 0, 0) ::
  (44, false, .aload_n 1, 1, 0, 0, 0, 0, 0) ::
  (45, false, .aload_n 2, 1, 0, 0, 0, 0, 0) ::
  (46, false, .iconst 5, 1, 0, 0, 0, jI 5, 0) ::
  (47, false, .aaload, 1, 0, 0, 0, 0, 0) ::
  (48, false, .aload_n 2, 1, 0, 0, 0, 0, 0) ::
  (49, false, .iconst 3, 1, 0, 0, 0, jI 3, 0) ::
  (50, false, .aaload, 1, 0, 0, 0, 0, 0) ::
  (51, false, .aload_n 2, 1, 0, 0, 0, 0, 0) ::
  (52, false, .iconst 4, 1, 0, 0, 0, jI 4, 0) ::
  (53, false, .aaload, 1, 0, 0, 0, 0, 0) ::
  (54, false, .aload_n 2, 1, 0, 0, 0, 0, 0) ::
  (55, false, .iconst 2, 1, 0, 0, 0, jI 2, 0) ::
  (56, false, .aaload, 1, 0, 0, 0, 0, 0) ::
  (57, false, .aload_n 3, 1, 0, 0, 0, 0, 0) ::
  (58, false, .invokevirtual 65, 3, 164, 6, 15, 0, 0) ::
  (61, false, .istore 4, 2, 0, 0, 0, 0, 0) ::
  (63, false, .goto (-25), 3, 26, 0, 0, 0, 0) ::
  (66, true, .aload_n 2, 1, 0, 0, 0, 0, 0) ::
  (67, false, .invokestatic 69, 3, 168, 1, 0, 0, 0) ::
  cl_163_2
def cl_163_0 : List mj_E := (0, false, .iconst 1, 1, 0, 0, 0, jI 1, 0) ::
  (1, false, .istore 4, 2, 0, 0, 0, 0, 0) ::
  (3, true, .iload 4, 2, 0, 0, 0, 0, 0) ::
  (5, false, .ifCond .eq 26, 3, 22, 0, 0, 0, 0) ::
  (8, false, .aload_n 0, 1, 0, 0, 0, 0, 0) ::
  (9, false, .aload_n 1, 1, 0, 0, 0, 0, 0) ::
  (10, false, .aload_n 2, 1, 0, 0, 0, 0, 0) ::
  (11, false, .iconst 2, 1, 0, 0, 0, jI 2, 0) ::
  (12, false, .aaload, 1, 0, 0, 0, 0, 0) ::
  (13, false, .aload_n 2, 1, 0, 0, 0, 0, 0) ::
  (14, false, .iconst 3, 1, 0, 0, 0, jI 3, 0) ::
  (15, false, .aaload, 1, 0, 0, 0, 0, 0) ::
  (16, false, .aload_n 2, 1, 0, 0, 0, 0, 0) ::
  (17, false, .iconst 4, 1, 0, 0, 0, jI 4, 0) ::
  (18, false, .aaload, 1, 0, 0, 0, 0, 0) ::
  (19, false, .aload_n 2, 1, 0, 0, 0, 0, 0) ::
  (20, false, .iconst 5, 1, 0, 0, 0, jI 5, 0) ::
  (21, false, .aaload, 1, 0, 0, 0, 0, 0) ::
  (22, false, .aload_n 3, 1, 0, 0, 0, 0, 0) ::
  (23, false, .invokevirtual 65, 3, 164, 6, 15, 0, 0) ::
  (26, false, .istore 4, 2, 0, 0, 0, 0, 0) ::
  (28, false, .goto (-25), 3, 2, 0, 0, 0, 0) ::
  (31, true, .aload_n 2, 1, 0, 0, 0, 0, 0) ::
  (32, false, .invokestatic 69, 3, 168, 1, 0, 0, 0) ::
  cl_163_1
def cd_163 : List mj_E := cl_163_0
def cx_163 : mj_X := (0, [], [])
theorem tb_163 : mj_tab (mj_mt 163) cx_163 cd_163 mj_mh [(0, 0, 0), (0, 0, 0), (0, 0, 0), (0, 0, 0), (0, 0, 0), (0, 0, 0), (0, 0, 0), (0, 0, 0), (0, 0, 0), (0, 0, 0), (0, 0, 0), (0, 0, 0), (0, 0, 0), (0, 0, 0), (0, 0, 0), (0, 0, 0), (0, 0, 0), (0, 0, 0), (0, 0, 0), (6096, 0, 0), (0, 0, 0), (0, 0, 0), (0, 0, 0), (6114, 0, 0), (0, 0, 0), (0, 0, 0), (0, 0, 0), (0, 0, 0), (0, 0, 0), (0, 0, 0), (0, 0, 0), (0, 0, 0), (0, 0, 0), (0, 0, 0), (0, 0, 0), (0, 0, 0), (0, 0, 0), (0, 0, 0), (0, 0, 0), (0, 0, 0), (0, 0, 0), (0, 0, 0), (0, 0, 0), (6096, 0, 0), (0, 0, 0), (0, 0, 0), (0, 0, 0), (6114, 0, 0), (0, 0, 0)] = true := mj_tab_f (by decide +kernel)
theorem ct_163 (G : mj_G) {h : mj_H} (L : isLay h) {q : Nat} {va vb vc vd : Int} {z : xI} {n n' : Nat} (hq : isQ h q z) (hq1 : 131 < q) (ha : isW h 34 va) (hb : isW h 36 vb) (hc : isW h 38 vc) (hd : isW h 40 vd) (ht : mvT va vb vc vd n z) (ht' : mvT vd (-vb) (-vc) va n' (itQ va vb vc vd n z)) : mj_Ct G (mj_mt 163) 0 0 [.ref 85, .ref q, .ref 29, .ref 3] h (fun o h' => o = .returned none ∧ isQ h' q (itQ vd (-vb) (-vc) va n' (itQ va vb vc vd n z)) ∧ isW h' 36 vb ∧ isW h' 38 vc ∧ FrI (mFr q) h h') := by
  refine mj_Ct_of mj_ok tb_163 rfl rfl (Nat.le_of_ble_eq_true rfl) (fun Run hR => ?_)
  have num := fun {h' : mj_H} (L' : isLay h') (i : Nat) (hi : i < 8) => L'.num i hi
  -- the end
  have r66 : ∀ (h' : mj_H) (x4 : Option Value), isQ h' q (itQ vd (-vb) (-vc) va n' (itQ va vb vc vd n z)) → isW h' 36 (-vb) → isW h' 38 (-vc) → FrI (mFr q) h h' → Run 66 [some (.ref 85), some (.ref q), some (.ref 29), some (.ref 3), x4] [] h' (0, 0) := by
    intro h' x4 hq' hb' hc' F
    have L0 := L.fr F.1
    refine hR 60 46 _ _ _ _ _ _ rfl ?_
    refine jcallP (ct_168 G L0 hb' hc') ?_
    rintro o g1 ⟨rfl, w3, w4, f1⟩
    rw [Int.neg_neg] at w3 w4
    exact ⟨rfl, hq'.fr f1 (by simp; omega), w3, w4, (F.trans f1).mono (by simp)⟩
  have r38 : ∀ (k : Nat) (z' : xI) (h' : mj_H) (mI : Int32), mvT vd (-vb) (-vc) va k z' → itQ vd (-vb) (-vc) va k z' = itQ vd (-vb) (-vc) va n' (itQ va vb vc vd n z) → isQ h' q z' → isW h' 34 va → isW h' 36 (-vb) → isW h' 38 (-vc) → isW h' 40 vd → FrI (mFr q) h h' → mI = jI 1 → Run 38 [some (.ref 85), some (.ref q), some (.ref 29), some (.ref 3), some (.int mI)] [] h' (0, 0) := by
    intro k
    induction k with
    | zero =>
      rintro z' h' mI ⟨t1, t2⟩ he hq' ha' hb' hc' hd' F rfl
      have L0 := L.fr F.1
      refine hR 60 26 _ _ _ _ _ _ rfl ?_
      refine ⟨fun c => absurd c (by decide), fun c => ?_⟩
      refine ⟨Or.inl (L0.K 29 rfl), (L0.num 5 (by decide)).1, _, (L0.num 5 (by decide)).2, Or.inl (L0.K 29 rfl), (L0.num 3 (by decide)).1, _, (L0.num 3 (by decide)).2, Or.inl (L0.K 29 rfl), (L0.num 4 (by decide)).1, _, (L0.num 4 (by decide)).2, Or.inl (L0.K 29 rfl), (L0.num 2 (by decide)).1, _, (L0.num 2 (by decide)).2, L0.K 85 rfl, jcallP (ct_164 G L0 (a := 40) (b := 36) (c := 38) (d := 34) hq' hq1 hd' hb' hc' ha' (by decide) t1) ?_⟩
      rintro o g1 ⟨hor, f1⟩
      rcases hor with ⟨y1, rfl, y3⟩ | ⟨y1, rfl, y3⟩
      · exact absurd y1 t2
      · have F1 : FrI (mFr q) h g1 := (F.trans f1).mono (by simp)
        refine hR 60 26 _ _ _ _ _ _ rfl ?_
        refine ⟨fun c2 => ?_, fun c2 => absurd rfl c2⟩
        refine r66 g1 _ ?_ (hb'.fr f1 (by first | (simp; done) | (simp; omega) | omega) (by first | (simp; done) | (simp; omega) | omega)) (hc'.fr f1 (by first | (simp; done) | (simp; omega) | omega) (by first | (simp; done) | (simp; omega) | omega)) F1
        rw [← he]
        exact y3
    | succ k ih =>
      rintro z' h' mI ⟨t1, t2, t3⟩ he hq' ha' hb' hc' hd' F rfl
      have L0 := L.fr F.1
      refine hR 60 26 _ _ _ _ _ _ rfl ?_
      refine ⟨fun c => absurd c (by decide), fun c => ?_⟩
      refine ⟨Or.inl (L0.K 29 rfl), (L0.num 5 (by decide)).1, _, (L0.num 5 (by decide)).2, Or.inl (L0.K 29 rfl), (L0.num 3 (by decide)).1, _, (L0.num 3 (by decide)).2, Or.inl (L0.K 29 rfl), (L0.num 4 (by decide)).1, _, (L0.num 4 (by decide)).2, Or.inl (L0.K 29 rfl), (L0.num 2 (by decide)).1, _, (L0.num 2 (by decide)).2, L0.K 85 rfl, jcallP (ct_164 G L0 (a := 40) (b := 36) (c := 38) (d := 34) hq' hq1 hd' hb' hc' ha' (by decide) t1) ?_⟩
      rintro o g1 ⟨hor, f1⟩
      rcases hor with ⟨y1, rfl, y3⟩ | ⟨y1, rfl, y3⟩
      · exact ih _ g1 _ t3 he y3 (ha'.fr f1 (by first | (simp; done) | (simp; omega) | omega) (by first | (simp; done) | (simp; omega) | omega)) (hb'.fr f1 (by first | (simp; done) | (simp; omega) | omega) (by first | (simp; done) | (simp; omega) | omega)) (hc'.fr f1 (by first | (simp; done) | (simp; omega) | omega) (by first | (simp; done) | (simp; omega) | omega)) (hd'.fr f1 (by first | (simp; done) | (simp; omega) | omega) (by first | (simp; done) | (simp; omega) | omega)) ((F.trans f1).mono (by simp)) rfl
      · exact absurd t2 y1
  have r31 : ∀ (h' : mj_H) (x4 : Option Value), isQ h' q (itQ va vb vc vd n z) → isW h' 34 va → isW h' 36 vb → isW h' 38 vc → isW h' 40 vd → FrI (mFr q) h h' → Run 31 [some (.ref 85), some (.ref q), some (.ref 29), some (.ref 3), x4] [] h' (0, 0) := by
    intro h' x4 hq' ha' hb' hc' hd' F
    have L0 := L.fr F.1
    refine hR 60 22 _ _ _ _ _ _ rfl ?_
    refine jcallP (ct_168 G L0 hb' hc') ?_
    rintro o g1 ⟨rfl, w3, w4, f1⟩
    exact r38 n' _ g1 _ ht' rfl (hq'.fr f1 (by simp; omega)) (ha'.fr f1 (by first | (simp; done) | (simp; omega) | omega) (by first | (simp; done) | (simp; omega) | omega)) w3 w4 (hd'.fr f1 (by first | (simp; done) | (simp; omega) | omega) (by first | (simp; done) | (simp; omega) | omega)) ((F.trans f1).mono (by simp)) rfl
  have r3 : ∀ (k : Nat) (z' : xI) (h' : mj_H) (mI : Int32), mvT va vb vc vd k z' → itQ va vb vc vd k z' = itQ va vb vc vd n z → isQ h' q z' → isW h' 34 va → isW h' 36 vb → isW h' 38 vc → isW h' 40 vd → FrI (mFr q) h h' → mI = jI 1 → Run 3 [some (.ref 85), some (.ref q), some (.ref 29), some (.ref 3), some (.int mI)] [] h' (0, 0) := by
    intro k
    induction k with
    | zero =>
      rintro z' h' mI ⟨t1, t2⟩ he hq' ha' hb' hc' hd' F rfl
      have L0 := L.fr F.1
      refine hR 60 2 _ _ _ _ _ _ rfl ?_
      refine ⟨fun c => absurd c (by decide), fun c => ?_⟩
      refine ⟨Or.inl (L0.K 29 rfl), (L0.num 2 (by decide)).1, _, (L0.num 2 (by decide)).2, Or.inl (L0.K 29 rfl), (L0.num 3 (by decide)).1, _, (L0.num 3 (by decide)).2, Or.inl (L0.K 29 rfl), (L0.num 4 (by decide)).1, _, (L0.num 4 (by decide)).2, Or.inl (L0.K 29 rfl), (L0.num 5 (by decide)).1, _, (L0.num 5 (by decide)).2, L0.K 85 rfl, jcallP (ct_164 G L0 (a := 34) (b := 36) (c := 38) (d := 40) hq' hq1 ha' hb' hc' hd' (by decide) t1) ?_⟩
      rintro o g1 ⟨hor, f1⟩
      rcases hor with ⟨y1, rfl, y3⟩ | ⟨y1, rfl, y3⟩
      · exact absurd y1 t2
      · refine hR 60 2 _ _ _ _ _ _ rfl ?_
        refine ⟨fun c2 => ?_, fun c2 => absurd rfl c2⟩
        refine r31 g1 _ ?_ (ha'.fr f1 (by first | (simp; done) | (simp; omega) | omega) (by first | (simp; done) | (simp; omega) | omega)) (hb'.fr f1 (by first | (simp; done) | (simp; omega) | omega) (by first | (simp; done) | (simp; omega) | omega)) (hc'.fr f1 (by first | (simp; done) | (simp; omega) | omega) (by first | (simp; done) | (simp; omega) | omega)) (hd'.fr f1 (by first | (simp; done) | (simp; omega) | omega) (by first | (simp; done) | (simp; omega) | omega)) ((F.trans f1).mono (by simp))
        rw [← he]
        exact y3
    | succ k ih =>
      rintro z' h' mI ⟨t1, t2, t3⟩ he hq' ha' hb' hc' hd' F rfl
      have L0 := L.fr F.1
      refine hR 60 2 _ _ _ _ _ _ rfl ?_
      refine ⟨fun c => absurd c (by decide), fun c => ?_⟩
      refine ⟨Or.inl (L0.K 29 rfl), (L0.num 2 (by decide)).1, _, (L0.num 2 (by decide)).2, Or.inl (L0.K 29 rfl), (L0.num 3 (by decide)).1, _, (L0.num 3 (by decide)).2, Or.inl (L0.K 29 rfl), (L0.num 4 (by decide)).1, _, (L0.num 4 (by decide)).2, Or.inl (L0.K 29 rfl), (L0.num 5 (by decide)).1, _, (L0.num 5 (by decide)).2, L0.K 85 rfl, jcallP (ct_164 G L0 (a := 34) (b := 36) (c := 38) (d := 40) hq' hq1 ha' hb' hc' hd' (by decide) t1) ?_⟩
      rintro o g1 ⟨hor, f1⟩
      rcases hor with ⟨y1, rfl, y3⟩ | ⟨y1, rfl, y3⟩
      · exact ih _ g1 _ t3 he y3 (ha'.fr f1 (by first | (simp; done) | (simp; omega) | omega) (by first | (simp; done) | (simp; omega) | omega)) (hb'.fr f1 (by first | (simp; done) | (simp; omega) | omega) (by first | (simp; done) | (simp; omega) | omega)) (hc'.fr f1 (by first | (simp; done) | (simp; omega) | omega) (by first | (simp; done) | (simp; omega) | omega)) (hd'.fr f1 (by first | (simp; done) | (simp; omega) | omega) (by first | (simp; done) | (simp; omega) | omega)) ((F.trans f1).mono (by simp)) rfl
      · exact absurd t2 y1
  refine hR 60 0 _ _ _ _ _ _ rfl ?_
  exact r3 n z h _ ht rfl hq ha hb hc hd (FrI.refl _ _) rfl
