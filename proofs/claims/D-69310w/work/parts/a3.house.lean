/-! the house: what is told of classes -/
/-- it throws a new exception -/
def jE (kd : Nat) (h : mj_H) : mj_Q := fun o h' => o = .threw (hT h) ∧ h' = hNew h kd 0
/-- it throws, after of the heap only S, T were changed -/
def jX (S T : Nat → Prop) (kd : Nat) (h : mj_H) : mj_Q := fun o h' => ∃ g, Fr S T h g ∧ jE kd g o h'
/-- it returns an int, and of the heap only S, T are changed -/
def jC (S T : Nat → Prop) (v : Int) (h : mj_H) : mj_Q := fun o h' => o = .returned (some (.int (jI v))) ∧ Fr S T h h'
theorem jE0 (kd : Nat) (h : mj_H) : jE kd h (.threw (hT h)) (hNew h kd 0) := ⟨rfl, rfl⟩
theorem jcallE {G : mj_G} {j : Nat} {av : List Value} {h g : mj_H} {k : Outcome → mj_H → Nat × Nat → Prop} {kd : Nat} (hc : mj_Ct G (mj_mt j) 1 6 av h (jE kd g)) (hk : k (.threw (hT g)) (hNew g kd 0) (0, 0)) : mj_call G j av h (1, 6) k :=
  ⟨1, 6, _, hc, Nat.le_refl _, Nat.le_refl _, by rintro o h' ⟨rfl, rfl⟩; exact hk⟩
theorem ct_104a (G : mj_G) {k n : Int} (h1 : -2147483648 ≤ k ∧ k < 2147483648) (h3 : -2147483648 ≤ n ∧ n < 2147483648) (ok : 0 ≤ k ∧ k < n) (h : mj_H) : mj_Ct G (mj_mt 104) 0 0 [.int (jI k), .int (jI n)] h (jV h) := by
  refine mj_Ct_of mj_ok tb_104 rfl rfl (Nat.le_of_ble_eq_true rfl) (fun Run hR => ?_)
  refine hR 30 0 _ _ _ _ _ _ rfl ?_
  refine ⟨fun c => ?_, fun c => ⟨fun c2 => ⟨rfl, rfl⟩, fun c2 => ?_⟩⟩
  · simp (disch := omega) only [mj_lcm, jI_lt, jI_le, jI_eq, jL_lt, jL_le, jL_eq, jI_lt0, jI_0le, jI_0lt, jI_le0, jI_eq0, jL_eq0, jI_L, jI_add, jI_sub, jI_mul, jI_neg, jL_add, jL_sub, jL_mul, jL_neg, jL_I, jI_div, jI_mod, jL_div, jL_mod] at c
    omega
  · simp (disch := omega) only [mj_lcm, jI_lt, jI_le, jI_eq, jL_lt, jL_le, jL_eq, jI_lt0, jI_0le, jI_0lt, jI_le0, jI_eq0, jL_eq0, jI_L, jI_add, jI_sub, jI_mul, jI_neg, jL_add, jL_sub, jL_mul, jL_neg, jL_I, jI_div, jI_mod, jL_div, jL_mod] at c c2
    omega
theorem ct_104b (G : mj_G) {k n : Int} (h1 : -2147483648 ≤ k ∧ k < 2147483648) (h3 : -2147483648 ≤ n ∧ n < 2147483648) (ok : ¬ (0 ≤ k ∧ k < n)) (h : mj_H) : mj_Ct G (mj_mt 104) 1 6 [.int (jI k), .int (jI n)] h (jE 81 h) := by
  refine mj_Ct_mono (ct_104 G h1.1 h1.2 h3.1 h3.2 h) ?_
  rintro o h' (⟨z, -⟩ | ⟨-, e⟩)
  · exact absurd z ok
  · exact e
theorem ct_100a (G : mj_G) (h : mj_H) : mj_Ct G (mj_mt 100) 0 0 [.int (jI 1)] h (jV h) := by
  refine mj_Ct_of mj_ok tb_100 rfl rfl (Nat.le_of_ble_eq_true rfl) (fun Run hR => ?_)
  refine hR 30 0 _ _ _ _ _ _ rfl ?_
  exact ⟨fun c => absurd c (by decide), fun c => ⟨rfl, rfl⟩⟩
theorem ct_100b (G : mj_G) (h : mj_H) : mj_Ct G (mj_mt 100) 1 6 [.int (jI 0)] h (jE 80 h) := by
  refine mj_Ct_mono (ct_100 G (b := 0) (Or.inl rfl) h) ?_
  rintro o h' (⟨z, -⟩ | ⟨-, e⟩)
  · exact absurd z (by decide)
  · exact e
/-- FormHouse.at(I)I; cuts at [] -/
def cd_106 : List mj_E := [(0, false, .iload_n 1, 1, 0, 0, 0, 0, 0),
  (1, false, .aload_n 0, 1, 0, 0, 0, 0, 0),
  (2, false, .getfield 37, 3, 0, 1, 2, 0, 0),
  (5, false, .getfield 170, 3, 7, 5, 0, 0, 0),
  (8, false, .invokestatic 218, 3, 104, 2, 0, 0, 0),
  (11, false, .iload_n 1, 1, 0, 0, 0, 0, 0),
  (12, false, .ireturn, 1, 0, 0, 0, 0, 0)]
def cx_106 : mj_X := (1, [], [])
theorem tb_106 : mj_tab (mj_mt 106) cx_106 cd_106 mj_mh [(0, 0, 0), (0, 0, 0), (4204, 0, 0), (2001, 0, 0), (5077, 0, 0), (0, 0, 0), (0, 0, 0)] = true := mj_tab_f (by decide +kernel)
theorem ct_106a (G : mj_G) {h : mj_H} (L : isLay h) {cnt : Nat} (hc : hI h 46 5 = jI cnt) (hcb : cnt ≤ 4096) {k : Int} (hk : -2147483648 ≤ k ∧ k < 2147483648) (ok : 0 ≤ k ∧ k < cnt) : mj_Ct G (mj_mt 106) 0 0 [.ref 1, .int (jI k)] h (jR (.int (jI k)) h) := by
  have c := ct_104a G hk (n := cnt) (by omega) ok h
  rw [← hc] at c
  refine mj_Ct_of mj_ok tb_106 rfl rfl (Nat.le_of_ble_eq_true rfl) (fun Run hR => ?_)
  refine hR 30 0 _ _ _ _ _ _ rfl ?_
  exact ⟨L.K 1 rfl, _, L.R 1 1 _ rfl, L.K 46 rfl, jcallV c (jRe rfl)⟩
theorem ct_106b (G : mj_G) {h : mj_H} (L : isLay h) {cnt : Nat} (hc : hI h 46 5 = jI cnt) (hcb : cnt ≤ 4096) {k : Int} (hk : -2147483648 ≤ k ∧ k < 2147483648) (ok : ¬ (0 ≤ k ∧ k < cnt)) : mj_Ct G (mj_mt 106) 1 6 [.ref 1, .int (jI k)] h (jE 81 h) := by
  have c := ct_104b G hk (n := cnt) (by omega) ok h
  rw [← hc] at c
  refine mj_Ct_of mj_ok tb_106 rfl rfl (Nat.le_of_ble_eq_true rfl) (fun Run hR => ?_)
  refine hR 30 0 _ _ _ _ _ _ rfl ?_
  exact ⟨L.K 1 rfl, _, L.R 1 1 _ rfl, L.K 46 rfl, jcallE c (jE0 _ _)⟩
abbrev s113 (a : Nat) : Prop := a = 113
section
variable {d w : Int} {n : Nat} {A : Nat → pI} {nxt : Nat → Nat} {cls : Nat → Int} {cnt : Nat} {nm : Nat → Nat}
theorem ct_79k (G : mj_G) {h : mj_H} (L : isLay h) (T : isTF d w n A nxt cls cnt nm) (hT : isTB h d w n A cls cnt nm) {k : Int} (ok : 0 ≤ k ∧ k < cnt) : mj_Ct G (mj_mt 79) 0 0 [.ref 46, .int (jI k), .ref 113] h (jV (sFm h 113 (nmF d A nm k.toNat))) := by
  have c := ct_79' G L T hT (c := k.toNat) (f := 113) (by omega) (L.K 113 rfl)
  rw [show ((k.toNat : Nat) : Int) = k by omega] at c
  exact c
/-- FormHouse.name(II)I; cuts at [] -/
def cd_103 : List mj_E := [(0, false, .iload_n 2, 1, 0, 0, 0, 0, 0),
  (1, false, .iconst 3, 1, 0, 0, 0, jI 3, 0),
  (2, false, .invokestatic 218, 3, 104, 2, 0, 0, 0),
  (5, false, .aload_n 0, 1, 0, 0, 0, 0, 0),
  (6, false, .getfield 37, 3, 0, 1, 2, 0, 0),
  (9, false, .aload_n 0, 1, 0, 0, 0, 0, 0),
  (10, false, .iload_n 1, 1, 0, 0, 0, 0, 0),
  (11, false, .invokevirtual 222, 3, 106, 1, 0, 0, 0),
  (14, false, .aload_n 0, 1, 0, 0, 0, 0, 0),
  (15, false, .getfield 94, 3, 0, 13, 2, 0, 0),
  (18, false, .invokevirtual 226, 3, 79, 2, 7, 0, 0),
  (21, false, .aload_n 0, 1, 0, 0, 0, 0, 0),
  (22, false, .getfield 94, 3, 0, 13, 2, 0, 0),
  (25, false, .iload_n 2, 1, 0, 0, 0, 0, 0),
  (26, false, .invokevirtual 230, 3, 107, 1, 6, 0, 0),
  (29, false, .l2i, 1, 0, 0, 0, 0, 0),
  (30, false, .ireturn, 1, 0, 0, 0, 0, 0)]
def cx_103 : mj_X := (1, [], [])
theorem tb_103 : mj_tab (mj_mt 103) cx_103 cd_103 mj_mh [(0, 0, 0), (0, 0, 0), (5077, 0, 0), (0, 0, 0), (4204, 0, 0), (0, 0, 0), (0, 0, 0), (5095, 0, 0), (0, 0, 0), (4216, 0, 0), (4190, 0, 0), (0, 0, 0), (4216, 0, 0), (0, 0, 0), (5099, 0, 0), (0, 0, 0), (0, 0, 0)] = true := mj_tab_f (by decide +kernel)
theorem ct_103 (G : mj_G) {h : mj_H} (L : isLay h) (T : isTF d w n A nxt cls cnt nm) (hT : isTB h d w n A cls cnt nm) {k x : Int} (hk : -2147483648 ≤ k ∧ k < 2147483648) (hx : -2147483648 ≤ x ∧ x < 2147483648) : mj_Ct G (mj_mt 103) 1 6 [.ref 1, .int (jI k), .int (jI x)] h (fun o h' => ((0 ≤ k ∧ k < cnt) → (0 ≤ x ∧ x < 3) → jC s113 noT (if x = 0 then (nmF d A nm k.toNat).1 else if x = 1 then (nmF d A nm k.toNat).2.1 else (nmF d A nm k.toNat).2.2) h o h') ∧ (¬ ((0 ≤ k ∧ k < cnt) ∧ 0 ≤ x ∧ x < 3) → jX s113 noT 81 h o h')) := by
  have hcb := T.1.2.2.2.2.2.1
  refine mj_Ct_of mj_ok tb_103 rfl rfl (Nat.le_of_ble_eq_true rfl) (fun Run hR => ?_)
  refine hR 60 0 _ _ _ _ _ _ rfl ?_
  by_cases zx : 0 ≤ x ∧ x < 3
  · refine jcallV (ct_104a G hx (n := 3) (by omega) zx h) ?_
    refine ⟨L.K 1 rfl, _, L.R 1 1 _ rfl, L.K 1 rfl, ?_⟩
    by_cases zk : 0 ≤ k ∧ k < cnt
    · refine jcall (ct_106a G L hT.2.1.1 hcb hk zk) ?_
      refine ⟨L.K 1 rfl, _, L.R 1 13 _ rfl, L.K 46 rfl, jcallV (ct_79k G L T hT zk) ?_⟩
      have q1 : Fr s113 noT h (sFm h 113 (nmF d A nm k.toNat)) := (Fr.refl s113 noT h).sFm rfl _
      have L1 := L.F q1 (fun _ z => z.elim)
      have g1 := isFm_sFm h (L.K 113 rfl) (nmF d A nm k.toNat)
      refine ⟨L1.K 1 rfl, _, L1.R 1 13 _ rfl, L1.K 113 rfl, jcall (ct_107 G g1 zx) ?_⟩
      refine ⟨fun _ _ => ⟨?_, q1⟩, fun z => absurd ⟨zk, zx⟩ z⟩
      rw [jL_I]
    · exact jcallE (ct_106b G L hT.2.1.1 hcb hk zk) ⟨fun z => absurd z zk, fun _ => ⟨h, Fr.refl _ _ h, rfl, rfl⟩⟩
  · exact jcallE (ct_104b G hx (n := 3) (by omega) zx h) ⟨fun _ z => absurd z zx, fun _ => ⟨h, Fr.refl _ _ h, rfl, rfl⟩⟩
/-- FormHouse.product(II)I; cuts at [] -/
def cd_109 : List mj_E := [(0, false, .aload_n 0, 1, 0, 0, 0, 0, 0),
  (1, false, .getfield 49, 3, 0, 2, 2, 0, 0),
  (4, false, .aload_n 0, 1, 0, 0, 0, 0, 0),
  (5, false, .iload_n 1, 1, 0, 0, 0, 0, 0),
  (6, false, .invokevirtual 222, 3, 106, 1, 0, 0, 0),
  (9, false, .aload_n 0, 1, 0, 0, 0, 0, 0),
  (10, false, .iload_n 2, 1, 0, 0, 0, 0, 0),
  (11, false, .invokevirtual 222, 3, 106, 1, 0, 0, 0),
  (14, false, .invokevirtual 234, 3, 78, 2, 8, 0, 0),
  (17, false, .ireturn, 1, 0, 0, 0, 0, 0)]
def cx_109 : mj_X := (1, [], [])
theorem tb_109 : mj_tab (mj_mt 109) cx_109 cd_109 mj_mh [(0, 0, 0), (4205, 0, 0), (0, 0, 0), (0, 0, 0), (5095, 0, 0), (0, 0, 0), (0, 0, 0), (5095, 0, 0), (5110, 0, 0), (0, 0, 0)] = true := mj_tab_f (by decide +kernel)
theorem ct_109 (G : mj_G) {h : mj_H} (L : isLay h) (T : isTF d w n A nxt cls cnt nm) (hT : isTB h d w n A cls cnt nm) {i j : Int} (hi : -2147483648 ≤ i ∧ i < 2147483648) (hj : -2147483648 ≤ j ∧ j < 2147483648) : mj_Ct G (mj_mt 109) 1 6 [.ref 1, .int (jI i), .int (jI j)] h (fun o h' => (∀ (z : 0 ≤ i ∧ i < cnt) (z' : 0 ≤ j ∧ j < cnt), jC inGt noT (mulC T ⟨i.toNat, by omega⟩ ⟨j.toNat, by omega⟩).val h o h') ∧ (¬ ((0 ≤ i ∧ i < cnt) ∧ 0 ≤ j ∧ j < cnt) → jX inGt noT 81 h o h')) := by
  have hcb := T.1.2.2.2.2.2.1
  refine mj_Ct_of mj_ok tb_109 rfl rfl (Nat.le_of_ble_eq_true rfl) (fun Run hR => ?_)
  refine hR 60 0 _ _ _ _ _ _ rfl ?_
  refine ⟨L.K 1 rfl, _, L.R 1 2 _ rfl, L.K 1 rfl, ?_⟩
  by_cases zi : 0 ≤ i ∧ i < cnt
  · refine jcall (ct_106a G L hT.2.1.1 hcb hi zi) ⟨L.K 1 rfl, ?_⟩
    by_cases zj : 0 ≤ j ∧ j < cnt
    · refine jcall (ct_106a G L hT.2.1.1 hcb hj zj) ?_
      have c := ct_78 G L T hT ⟨i.toNat, by omega⟩ ⟨j.toNat, by omega⟩
      rw [show ((i.toNat : Nat) : Int) = i by omega, show ((j.toNat : Nat) : Int) = j by omega] at c
      refine ⟨L.K 52 rfl, jcallP c ?_⟩
      rintro o h' ⟨rfl, F⟩
      exact ⟨fun _ _ => ⟨rfl, F⟩, fun z => absurd ⟨zi, zj⟩ z⟩
    · exact jcallE (ct_106b G L hT.2.1.1 hcb hj zj) ⟨fun _ z => absurd z zj, fun _ => ⟨h, Fr.refl _ _ h, rfl, rfl⟩⟩
  · exact jcallE (ct_106b G L hT.2.1.1 hcb hi zi) ⟨fun z => absurd z zi, fun _ => ⟨h, Fr.refl _ _ h, rfl, rfl⟩⟩
/-- FormHouse.inverse(I)I; cuts at [] -/
def cd_111 : List mj_E := [(0, false, .aload_n 0, 1, 0, 0, 0, 0, 0),
  (1, false, .getfield 49, 3, 0, 2, 2, 0, 0),
  (4, false, .aload_n 0, 1, 0, 0, 0, 0, 0),
  (5, false, .iload_n 1, 1, 0, 0, 0, 0, 0),
  (6, false, .invokevirtual 222, 3, 106, 1, 0, 0, 0),
  (9, false, .invokevirtual 237, 3, 89, 1, 8, 0, 0),
  (12, false, .ireturn, 1, 0, 0, 0, 0, 0)]
def cx_111 : mj_X := (1, [], [])
theorem tb_111 : mj_tab (mj_mt 111) cx_111 cd_111 mj_mh [(0, 0, 0), (4205, 0, 0), (0, 0, 0), (0, 0, 0), (5095, 0, 0), (5118, 0, 0), (0, 0, 0)] = true := mj_tab_f (by decide +kernel)
theorem ct_111 (G : mj_G) {h : mj_H} (L : isLay h) (T : isTF d w n A nxt cls cnt nm) (hT : isTB h d w n A cls cnt nm) {i : Int} (hi : -2147483648 ≤ i ∧ i < 2147483648) : mj_Ct G (mj_mt 111) 1 6 [.ref 1, .int (jI i)] h (fun o h' => (∀ (z : 0 ≤ i ∧ i < cnt), ∃ y : Fin cnt, mulC T ⟨i.toNat, by omega⟩ y = oneC T ∧ jC inGt noT y.val h o h') ∧ (¬ (0 ≤ i ∧ i < cnt) → jX inGt noT 81 h o h')) := by
  have hcb := T.1.2.2.2.2.2.1
  refine mj_Ct_of mj_ok tb_111 rfl rfl (Nat.le_of_ble_eq_true rfl) (fun Run hR => ?_)
  refine hR 60 0 _ _ _ _ _ _ rfl ?_
  refine ⟨L.K 1 rfl, _, L.R 1 2 _ rfl, L.K 1 rfl, ?_⟩
  by_cases zi : 0 ≤ i ∧ i < cnt
  · refine jcall (ct_106a G L hT.2.1.1 hcb hi zi) ?_
    have c := ct_89 G L T hT ⟨i.toNat, by omega⟩
    rw [show ((i.toNat : Nat) : Int) = i by omega] at c
    refine ⟨L.K 52 rfl, jcallP c ?_⟩
    rintro o h' ⟨⟨y, hy, rfl⟩, F⟩
    exact ⟨fun _ => ⟨y, hy, rfl, F⟩, fun z => absurd zi z⟩
  · exact jcallE (ct_106b G L hT.2.1.1 hcb hi zi) ⟨fun z => absurd z zi, fun _ => ⟨h, Fr.refl _ _ h, rfl, rfl⟩⟩
/-- FormHouse.power(II)I; cuts at [] -/
def cd_113 : List mj_E := [(0, false, .aload_n 0, 1, 0, 0, 0, 0, 0),
  (1, false, .getfield 49, 3, 0, 2, 2, 0, 0),
  (4, false, .aload_n 0, 1, 0, 0, 0, 0, 0),
  (5, false, .iload_n 1, 1, 0, 0, 0, 0, 0),
  (6, false, .invokevirtual 222, 3, 106, 1, 0, 0, 0),
  (9, false, .iload_n 2, 1, 0, 0, 0, 0, 0),
  (10, false, .invokevirtual 240, 3, 88, 2, 8, 0, 0),
  (13, false, .ireturn, 1, 0, 0, 0, 0, 0)]
def cx_113 : mj_X := (1, [], [])
theorem tb_113 : mj_tab (mj_mt 113) cx_113 cd_113 mj_mh [(0, 0, 0), (4205, 0, 0), (0, 0, 0), (0, 0, 0), (5095, 0, 0), (0, 0, 0), (5126, 0, 0), (0, 0, 0)] = true := mj_tab_f (by decide +kernel)
theorem ct_113 (G : mj_G) {h : mj_H} (L : isLay h) (T : isTF d w n A nxt cls cnt nm) (hT : isTB h d w n A cls cnt nm) {ord : Fin cnt → Nat} (hG : isGr T ord h) (ho : ∀ x, isOrd (mulC T) (oneC T) x (ord x) ∧ ord x ≤ 4096) {i t : Int} (hi : -2147483648 ≤ i ∧ i < 2147483648) (ht : -2147483648 ≤ t ∧ t < 2147483648) : mj_Ct G (mj_mt 113) 1 6 [.ref 1, .int (jI i), .int (jI t)] h (fun o h' => (∀ (z : 0 ≤ i ∧ i < cnt), jC inGt noT (pw (mulC T) (oneC T) ⟨i.toNat, by omega⟩ (t % (ord ⟨i.toNat, by omega⟩ : Int)).toNat).val h o h') ∧ (¬ (0 ≤ i ∧ i < cnt) → jX inGt noT 81 h o h')) := by
  have hcb := T.1.2.2.2.2.2.1
  refine mj_Ct_of mj_ok tb_113 rfl rfl (Nat.le_of_ble_eq_true rfl) (fun Run hR => ?_)
  refine hR 60 0 _ _ _ _ _ _ rfl ?_
  refine ⟨L.K 1 rfl, _, L.R 1 2 _ rfl, L.K 1 rfl, ?_⟩
  by_cases zi : 0 ≤ i ∧ i < cnt
  · refine jcall (ct_106a G L hT.2.1.1 hcb hi zi) ?_
    have c := ct_88 G L T hT hG ho ⟨i.toNat, by omega⟩ ht
    rw [show ((i.toNat : Nat) : Int) = i by omega] at c
    refine ⟨L.K 52 rfl, jcallP c ?_⟩
    rintro o h' ⟨rfl, F⟩
    exact ⟨fun _ => ⟨rfl, F⟩, fun z => absurd zi z⟩
  · exact jcallE (ct_106b G L hT.2.1.1 hcb hi zi) ⟨fun z => absurd z zi, fun _ => ⟨h, Fr.refl _ _ h, rfl, rfl⟩⟩
/-- FormHouse.order(I)I; cuts at [] -/
def cd_115 : List mj_E := [(0, false, .aload_n 0, 1, 0, 0, 0, 0, 0),
  (1, false, .getfield 49, 3, 0, 2, 2, 0, 0),
  (4, false, .getfield 185, 3, 8, 6, 2, 0, 0),
  (7, false, .aload_n 0, 1, 0, 0, 0, 0, 0),
  (8, false, .iload_n 1, 1, 0, 0, 0, 0, 0),
  (9, false, .invokevirtual 222, 3, 106, 1, 0, 0, 0),
  (12, false, .saload, 1, 0, 0, 0, 0, 0),
  (13, false, .ireturn, 1, 0, 0, 0, 0, 0)]
def cx_115 : mj_X := (1, [], [])
theorem tb_115 : mj_tab (mj_mt 115) cx_115 cd_115 mj_mh [(0, 0, 0), (4205, 0, 0), (2082, 0, 0), (0, 0, 0), (0, 0, 0), (5095, 0, 0), (0, 0, 0), (0, 0, 0)] = true := mj_tab_f (by decide +kernel)
theorem ct_115 (G : mj_G) {h : mj_H} (L : isLay h) (T : isTF d w n A nxt cls cnt nm) (hT : isTB h d w n A cls cnt nm) {ord : Fin cnt → Nat} (hG : isGr T ord h) {i : Int} (hi : -2147483648 ≤ i ∧ i < 2147483648) : mj_Ct G (mj_mt 115) 1 6 [.ref 1, .int (jI i)] h (fun o h' => (∀ (z : 0 ≤ i ∧ i < cnt), jC noT noT (ord ⟨i.toNat, by omega⟩) h o h') ∧ (¬ (0 ≤ i ∧ i < cnt) → jX noT noT 81 h o h')) := by
  have hcb := T.1.2.2.2.2.2.1
  refine mj_Ct_of mj_ok tb_115 rfl rfl (Nat.le_of_ble_eq_true rfl) (fun Run hR => ?_)
  refine hR 60 0 _ _ _ _ _ _ rfl ?_
  refine ⟨L.K 1 rfl, _, L.R 1 2 _ rfl, L.K 52 rfl, _, L.R 52 6 _ rfl, L.K 1 rfl, ?_⟩
  by_cases zi : 0 ≤ i ∧ i < cnt
  · refine jcall (ct_106a G L hT.2.1.1 hcb hi zi) ?_
    obtain ⟨v, e⟩ := nat_in (h := h) (c := 61) (i := i) (n := cnt) (L.N 60 rfl) hcb (by decide) zi
    refine ⟨L.K 61 rfl, v, ?_⟩
    rw [e]
    refine ⟨fun z => ⟨?_, Fr.refl _ _ h⟩, fun z => absurd zi z⟩
    rw [show hI h 61 i.toNat = jI (ord ⟨i.toNat, by omega⟩) from hG.2 ⟨i.toNat, by omega⟩]
  · exact jcallE (ct_106b G L hT.2.1.1 hcb hi zi) ⟨fun z => absurd z zi, fun _ => ⟨h, Fr.refl _ _ h, rfl, rfl⟩⟩
/-- FormHouse.generator(I)I; cuts at [] -/
def cd_117 : List mj_E := [(0, false, .iload_n 1, 1, 0, 0, 0, 0, 0),
  (1, false, .aload_n 0, 1, 0, 0, 0, 0, 0),
  (2, false, .getfield 49, 3, 0, 2, 2, 0, 0),
  (5, false, .getfield 179, 3, 8, 7, 0, 0, 0),
  (8, false, .invokestatic 218, 3, 104, 2, 0, 0, 0),
  (11, false, .aload_n 0, 1, 0, 0, 0, 0, 0),
  (12, false, .getfield 49, 3, 0, 2, 2, 0, 0),
  (15, false, .getfield 188, 3, 8, 8, 2, 0, 0),
  (18, false, .iload_n 1, 1, 0, 0, 0, 0, 0),
  (19, false, .iaload, 1, 0, 0, 0, 0, 0),
  (20, false, .ireturn, 1, 0, 0, 0, 0, 0)]
def cx_117 : mj_X := (1, [], [])
theorem tb_117 : mj_tab (mj_mt 117) cx_117 cd_117 mj_mh [(0, 0, 0), (0, 0, 0), (4205, 0, 0), (2084, 0, 0), (5077, 0, 0), (0, 0, 0), (4205, 0, 0), (2086, 0, 0), (0, 0, 0), (0, 0, 0), (0, 0, 0)] = true := mj_tab_f (by decide +kernel)
theorem ct_117 (G : mj_G) {h : mj_H} (L : isLay h) {st : gS cnt} (hs : isGs st h) {i : Int} (hi : -2147483648 ≤ i ∧ i < 2147483648) : mj_Ct G (mj_mt 117) 1 6 [.ref 1, .int (jI i)] h (fun o h' => (0 ≤ i ∧ i < st.2.2.length → ∀ g, st.2.2[i.toNat]? = some g → jC noT noT g.val h o h') ∧ (¬ (0 ≤ i ∧ i < st.2.2.length) → jX noT noT 81 h o h')) := by
  have h8 := hs.2.2.1.2.1
  refine mj_Ct_of mj_ok tb_117 rfl rfl (Nat.le_of_ble_eq_true rfl) (fun Run hR => ?_)
  refine hR 60 0 _ _ _ _ _ _ rfl ?_
  refine ⟨L.K 1 rfl, _, L.R 1 2 _ rfl, L.K 52 rfl, ?_⟩
  by_cases zi : 0 ≤ i ∧ i < st.2.2.length
  · have c := ct_104a G hi (n := st.2.2.length) (by omega) zi h
    rw [← hs.1] at c
    obtain ⟨v, e⟩ := nat_in (h := h) (c := 62) (i := i) (n := st.2.2.length) (L.N 61 rfl) h8 (by decide) zi
    refine jcallV c ⟨L.K 1 rfl, _, L.R 1 2 _ rfl, L.K 52 rfl, _, L.R 52 8 _ rfl, Or.inl (L.K 62 rfl), v, ?_⟩
    rw [e]
    refine ⟨fun _ g hg => ⟨?_, Fr.refl _ _ h⟩, fun z => absurd zi z⟩
    rw [hs.2.2.2.2.2.2 _ g hg]
  · have c := ct_104b G hi (n := st.2.2.length) (by omega) zi h
    rw [← hs.1] at c
    exact jcallE c ⟨fun z => absurd z zi, fun _ => ⟨h, Fr.refl _ _ h, rfl, rfl⟩⟩
/-- FormHouse.exponent(II)I; cuts at [] -/
def cd_119 : List mj_E := [(0, false, .aload_n 0, 1, 0, 0, 0, 0, 0),
  (1, false, .iload_n 1, 1, 0, 0, 0, 0, 0),
  (2, false, .invokevirtual 222, 3, 106, 1, 0, 0, 0),
  (5, false, .istore_n 3, 1, 0, 0, 0, 0, 0),
  (6, false, .iload_n 2, 1, 0, 0, 0, 0, 0),
  (7, false, .aload_n 0, 1, 0, 0, 0, 0, 0),
  (8, false, .getfield 49, 3, 0, 2, 2, 0, 0),
  (11, false, .getfield 179, 3, 8, 7, 0, 0, 0),
  (14, false, .invokestatic 218, 3, 104, 2, 0, 0, 0),
  (17, false, .aload_n 0, 1, 0, 0, 0, 0, 0),
  (18, false, .getfield 49, 3, 0, 2, 2, 0, 0),
  (21, false, .getfield 243, 3, 8, 12, 2, 0, 0),
  (24, false, .bipush 8, 2, 0, 0, 0, jI 8, 0),
  (26, false, .iload_n 3, 1, 0, 0, 0, 0, 0),
  (27, false, .imul, 1, 0, 0, 0, 0, 0),
  (28, false, .iload_n 2, 1, 0, 0, 0, 0, 0),
  (29, false, .iadd, 1, 0, 0, 0, 0, 0),
  (30, false, .saload, 1, 0, 0, 0, 0, 0),
  (31, false, .ireturn, 1, 0, 0, 0, 0, 0)]
def cx_119 : mj_X := (1, [], [])
theorem tb_119 : mj_tab (mj_mt 119) cx_119 cd_119 mj_mh [(0, 0, 0), (0, 0, 0), (5095, 0, 0), (0, 0, 0), (0, 0, 0), (0, 0, 0), (4205, 0, 0), (2084, 0, 0), (5077, 0, 0), (0, 0, 0), (4205, 0, 0), (2091, 0, 0), (0, 0, 0), (0, 0, 0), (0, 0, 0), (0, 0, 0), (0, 0, 0), (0, 0, 0), (0, 0, 0)] = true := mj_tab_f (by decide +kernel)
theorem ct_119 (G : mj_G) {h : mj_H} (L : isLay h) (hc : hI h 46 5 = jI cnt) (hcb : cnt ≤ 4096) {st : gS cnt} (hs : isGs st h) (hall : ∀ y, y ∈ st.1) {k i : Int} (hk : -2147483648 ≤ k ∧ k < 2147483648) (hi : -2147483648 ≤ i ∧ i < 2147483648) : mj_Ct G (mj_mt 119) 1 6 [.ref 1, .int (jI k), .int (jI i)] h (fun o h' => (∀ (z : 0 ≤ k ∧ k < cnt), 0 ≤ i ∧ i < st.2.2.length → jC noT noT (st.2.1 ⟨k.toNat, by omega⟩ i.toNat) h o h') ∧ (¬ ((0 ≤ k ∧ k < cnt) ∧ 0 ≤ i ∧ i < st.2.2.length) → jX noT noT 81 h o h')) := by
  have h8 := hs.2.2.1.2.1
  refine mj_Ct_of mj_ok tb_119 rfl rfl (Nat.le_of_ble_eq_true rfl) (fun Run hR => ?_)
  refine hR 60 0 _ _ _ _ _ _ rfl ?_
  refine ⟨L.K 1 rfl, ?_⟩
  by_cases zk : 0 ≤ k ∧ k < cnt
  · refine jcall (ct_106a G L hc hcb hk zk) ?_
    refine ⟨L.K 1 rfl, _, L.R 1 2 _ rfl, L.K 52 rfl, ?_⟩
    by_cases zi : 0 ≤ i ∧ i < st.2.2.length
    · have c := ct_104a G hi (n := st.2.2.length) (by omega) zi h
      rw [← hs.1] at c
      have ix : jI 8 * jI k + jI i = jI ((8 * k.toNat + i.toNat : Nat) : Int) := by
        rw [jI_mul, jI_add]
        congr 1
        omega
      refine jcallV c ⟨L.K 1 rfl, _, L.R 1 2 _ rfl, L.K 52 rfl, _, L.R 52 12 _ rfl, L.K 65 rfl, ?_, ?_⟩
      · show vp_in (jI 8 * jI k + jI i) (hN h 65)
        rw [ix, show hN h 65 = 32768 from L.N 64 rfl]
        exact jI_in (by omega) (by omega) (by omega)
      · have e : (jI 8 * jI k + jI i).toNatClampNeg = 8 * k.toNat + i.toNat := by
          rw [ix, jI_nat (by omega) (by omega), Int.toNat_natCast]
        have e2 := (hs.2.2.2.2.2.1 ⟨k.toNat, by omega⟩ (hall _) i.toNat (by omega)).1
        refine ⟨fun _ _ => ⟨?_, Fr.refl _ _ h⟩, fun z => absurd ⟨zk, zi⟩ z⟩
        show Outcome.returned (some (.int (hI h 65 (jI 8 * jI k + jI i).toNatClampNeg))) = _
        rw [e]
        exact congrArg (fun v => Outcome.returned (some (Value.int v))) e2
    · have c := ct_104b G hi (n := st.2.2.length) (by omega) zi h
      rw [← hs.1] at c
      exact jcallE c ⟨fun _ z => absurd z zi, fun _ => ⟨h, Fr.refl _ _ h, rfl, rfl⟩⟩
  · exact jcallE (ct_106b G L hc hcb hk zk) ⟨fun z => absurd z zk, fun _ => ⟨h, Fr.refl _ _ h, rfl, rfl⟩⟩
/-- FormHouse.prime(I)I; cuts at [] -/
def cd_121 : List mj_E := [(0, false, .iload_n 1, 1, 0, 0, 0, 0, 0),
  (1, false, .aload_n 0, 1, 0, 0, 0, 0, 0),
  (2, false, .getfield 56, 3, 0, 3, 2, 0, 0),
  (5, false, .getfield 194, 3, 11, 0, 0, 0, 0),
  (8, false, .invokestatic 218, 3, 104, 2, 0, 0, 0),
  (11, false, .aload_n 0, 1, 0, 0, 0, 0, 0),
  (12, false, .getfield 56, 3, 0, 3, 2, 0, 0),
  (15, false, .getfield 246, 3, 11, 1, 2, 0, 0),
  (18, false, .iload_n 1, 1, 0, 0, 0, 0, 0),
  (19, false, .iaload, 1, 0, 0, 0, 0, 0),
  (20, false, .ireturn, 1, 0, 0, 0, 0, 0)]
def cx_121 : mj_X := (1, [], [])
theorem tb_121 : mj_tab (mj_mt 121) cx_121 cd_121 mj_mh [(0, 0, 0), (0, 0, 0), (4206, 0, 0), (2130, 0, 0), (5077, 0, 0), (0, 0, 0), (4206, 0, 0), (2132, 0, 0), (0, 0, 0), (0, 0, 0), (0, 0, 0)] = true := mj_tab_f (by decide +kernel)
theorem ct_121 (G : mj_G) {h : mj_H} (L : isLay h) {ps : List Nat} (hp : isCh h ps) {i : Int} (hi : -2147483648 ≤ i ∧ i < 2147483648) : mj_Ct G (mj_mt 121) 1 6 [.ref 1, .int (jI i)] h (fun o h' => (0 ≤ i ∧ i < ps.length → ∀ p, ps[i.toNat]? = some p → jC noT noT (p : Nat) h o h') ∧ (¬ (0 ≤ i ∧ i < ps.length) → jX noT noT 81 h o h')) := by
  have h6 := hp.2.1
  refine mj_Ct_of mj_ok tb_121 rfl rfl (Nat.le_of_ble_eq_true rfl) (fun Run hR => ?_)
  refine hR 60 0 _ _ _ _ _ _ rfl ?_
  refine ⟨L.K 1 rfl, _, L.R 1 3 _ rfl, L.K 67 rfl, ?_⟩
  by_cases zi : 0 ≤ i ∧ i < ps.length
  · have c := ct_104a G hi (n := ps.length) (by omega) zi h
    rw [← hp.1] at c
    obtain ⟨v, e⟩ := nat_in (h := h) (c := 68) (N := 8) (i := i) (n := ps.length) (L.N 67 rfl) (by omega) (by decide) zi
    refine jcallV c ⟨L.K 1 rfl, _, L.R 1 3 _ rfl, L.K 67 rfl, _, L.R 67 1 _ rfl, Or.inl (L.K 68 rfl), v, ?_⟩
    rw [e]
    refine ⟨fun _ p hpp => ⟨?_, Fr.refl _ _ h⟩, fun z => absurd zi z⟩
    rw [hp.2.2 _ p hpp]
  · have c := ct_104b G hi (n := ps.length) (by omega) zi h
    rw [← hp.1] at c
    exact jcallE c ⟨fun z => absurd z zi, fun _ => ⟨h, Fr.refl _ _ h, rfl, rfl⟩⟩
/-- FormHouse.character(II)I; cuts at [] -/
def cd_123 : List mj_E := [(0, false, .aload_n 0, 1, 0, 0, 0, 0, 0),
  (1, false, .getfield 37, 3, 0, 1, 2, 0, 0),
  (4, false, .aload_n 0, 1, 0, 0, 0, 0, 0),
  (5, false, .iload_n 1, 1, 0, 0, 0, 0, 0),
  (6, false, .invokevirtual 222, 3, 106, 1, 0, 0, 0),
  (9, false, .aload_n 0, 1, 0, 0, 0, 0, 0),
  (10, false, .getfield 94, 3, 0, 13, 2, 0, 0),
  (13, false, .invokevirtual 226, 3, 79, 2, 7, 0, 0),
  (16, false, .iload_n 2, 1, 0, 0, 0, 0, 0),
  (17, false, .aload_n 0, 1, 0, 0, 0, 0, 0),
  (18, false, .getfield 56, 3, 0, 3, 2, 0, 0),
  (21, false, .getfield 194, 3, 11, 0, 0, 0, 0),
  (24, false, .invokestatic 218, 3, 104, 2, 0, 0, 0),
  (27, false, .aload_n 0, 1, 0, 0, 0, 0, 0),
  (28, false, .getfield 56, 3, 0, 3, 2, 0, 0),
  (31, false, .aload_n 0, 1, 0, 0, 0, 0, 0),
  (32, false, .getfield 94, 3, 0, 13, 2, 0, 0),
  (35, false, .iload_n 2, 1, 0, 0, 0, 0, 0),
  (36, false, .invokevirtual 249, 3, 124, 2, 11, 0, 0),
  (39, false, .ireturn, 1, 0, 0, 0, 0, 0)]
def cx_123 : mj_X := (1, [], [])
theorem tb_123 : mj_tab (mj_mt 123) cx_123 cd_123 mj_mh [(0, 0, 0), (4204, 0, 0), (0, 0, 0), (0, 0, 0), (5095, 0, 0), (0, 0, 0), (4216, 0, 0), (4190, 0, 0), (0, 0, 0), (0, 0, 0), (4206, 0, 0), (2130, 0, 0), (5077, 0, 0), (0, 0, 0), (4206, 0, 0), (0, 0, 0), (4216, 0, 0), (0, 0, 0), (5162, 0, 0), (0, 0, 0)] = true := mj_tab_f (by decide +kernel)
theorem ct_123 (G : mj_G) {h : mj_H} (L : isLay h) (T : isTF d w n A nxt cls cnt nm) (hT : isTB h d w n A cls cnt nm) {ps : List Nat} (hp : isCh h ps) (hpp : ∀ p, p ∈ ps → Pr p ∧ p % 2 = 1 ∧ p ≤ 1048576) (hcv : ∀ c p, c < cnt → p ∈ ps → chV (nmF d A nm c) p % (p : Int) ≠ 0) (hbd : ∀ c, c < cnt → (nmF d A nm c).2.2.natAbs ≤ 1048576) {k i : Int} (hk : -2147483648 ≤ k ∧ k < 2147483648) (hi : -2147483648 ≤ i ∧ i < 2147483648) : mj_Ct G (mj_mt 123) 1 6 [.ref 1, .int (jI k), .int (jI i)] h (fun o h' => ((0 ≤ k ∧ k < cnt) → ∀ p, 0 ≤ i → ps[i.toNat]? = some p → jC s113 noT (legN (chV (nmF d A nm k.toNat) p % (p : Int)).toNat p) h o h') ∧ (¬ ((0 ≤ k ∧ k < cnt) ∧ 0 ≤ i ∧ i < ps.length) → jX s113 noT 81 h o h')) := by
  have hcb := T.1.2.2.2.2.2.1
  have h6 := hp.2.1
  refine mj_Ct_of mj_ok tb_123 rfl rfl (Nat.le_of_ble_eq_true rfl) (fun Run hR => ?_)
  refine hR 60 0 _ _ _ _ _ _ rfl ?_
  refine ⟨L.K 1 rfl, _, L.R 1 1 _ rfl, L.K 1 rfl, ?_⟩
  by_cases zk : 0 ≤ k ∧ k < cnt
  · refine jcall (ct_106a G L hT.2.1.1 hcb hk zk) ?_
    refine ⟨L.K 1 rfl, _, L.R 1 13 _ rfl, L.K 46 rfl, jcallV (ct_79k G L T hT zk) ?_⟩
    have q1 : Fr s113 noT h (sFm h 113 (nmF d A nm k.toNat)) := (Fr.refl s113 noT h).sFm rfl _
    have L1 := L.F q1 (fun _ z => z.elim)
    have g1 := isFm_sFm h (L.K 113 rfl) (nmF d A nm k.toNat)
    have hp1 : isCh (sFm h 113 (nmF d A nm k.toNat)) ps := hp
    obtain ⟨m1, -⟩ := T.2.2.2.1 k.toNat (by omega)
    obtain ⟨-, -, ab1, ab2⟩ := T.2.1 _ m1
    have ab3 := hbd k.toNat (by omega)
    have hcv2 := fun p => hcv k.toNat p (by omega)
    have ab1' : (nmF d A nm k.toNat).1 = (A (nm k.toNat)).1 := rfl
    have ab2' : (nmF d A nm k.toNat).2.1 = (A (nm k.toNat)).2 := rfl
    generalize nmF d A nm k.toNat = g at q1 L1 g1 hp1 ab3 hcv2 ab1' ab2'
    generalize sFm h 113 g = h1 at q1 L1 g1 hp1
    refine ⟨L1.K 1 rfl, _, L1.R 1 3 _ rfl, L1.K 67 rfl, ?_⟩
    by_cases zi : 0 ≤ i ∧ i < ps.length
    · have c := ct_104a G hi (n := ps.length) (by omega) zi h1
      rw [← hp1.1] at c
      refine jcallV c ?_
      obtain ⟨p, hpi⟩ : ∃ p, ps[i.toNat]? = some p := ⟨ps[i.toNat]'(by omega), List.getElem?_eq_getElem (by omega)⟩
      have hmem := List.mem_of_getElem? hpi
      obtain ⟨p1, p2, p3⟩ := hpp p hmem
      have c2 := ct_124 G L1 hp1 hpi p1 p2 p3 (f := 113) g1 ⟨by omega, by omega, by omega⟩ (hcv2 p hmem)
      rw [show ((i.toNat : Nat) : Int) = i by omega] at c2
      refine ⟨L1.K 1 rfl, _, L1.R 1 3 _ rfl, L1.K 1 rfl, _, L1.R 1 13 _ rfl, L1.K 67 rfl, jcall c2 ?_⟩
      refine ⟨fun _ p' _ hp' => ⟨?_, q1⟩, fun z => absurd ⟨zk, zi⟩ z⟩
      rw [hpi] at hp'
      rw [Option.some.inj hp']
    · have c := ct_104b G hi (n := ps.length) (by omega) zi h1
      rw [← hp1.1] at c
      refine jcallE c ⟨fun _ p hi0 hpi => ?_, fun _ => ⟨h1, q1, rfl, rfl⟩⟩
      exact absurd ⟨hi0, by have := lt_of_some hpi; omega⟩ zi
  · exact jcallE (ct_106b G L hT.2.1.1 hcb hk zk) ⟨fun z => absurd z zk, fun _ => ⟨h, Fr.refl _ _ h, rfl, rfl⟩⟩
end
theorem ct_127z (G : mj_G) {d : Int} (hd : -1099511627776 < d ∧ d < 1099511627776) (h1 : d ≠ 1) (h2 : d ≠ -1) (h : mj_H) : mj_Ct G (mj_mt 127) 0 0 [.long (jL d), .int (jI 0)] h (jR (.int (jI 0)) h) := by
  refine mj_Ct_of mj_ok tb_127 rfl rfl (Nat.le_of_ble_eq_true rfl) (fun Run hR => ?_)
  refine hR 60 0 _ _ _ _ _ _ rfl ?_
  refine ⟨fun c => ⟨fun c2 => ?_, fun c2 => ⟨fun c3 => ?_, fun c3 => jRe rfl⟩⟩, fun c => absurd rfl c⟩
  · simp (disch := omega) only [mj_lcm, jI_lt, jI_le, jI_eq, jL_lt, jL_le, jL_eq, jI_lt0, jI_0le, jI_0lt, jI_le0, jI_eq0, jL_eq0, jI_L, jI_add, jI_sub, jI_mul, jI_neg, jL_add, jL_sub, jL_mul, jL_neg, jL_I, jI_div, jI_mod, jL_div, jL_mod] at c2
    omega
  · simp (disch := omega) only [mj_lcm, jI_lt, jI_le, jI_eq, jL_lt, jL_le, jL_eq, jI_lt0, jI_0le, jI_0lt, jI_le0, jI_eq0, jL_eq0, jI_L, jI_add, jI_sub, jI_mul, jI_neg, jL_add, jL_sub, jL_mul, jL_neg, jL_I, jI_div, jI_mod, jL_div, jL_mod] at c3
    omega
/-- FormHouse.kronecker(I)I; cuts at [] -/
def cd_126 : List mj_E := [(0, false, .iload_n 1, 1, 0, 0, 0, 0, 0),
  (1, false, .ldc 253, 2, 0, 0, 0, jI (-4194304), 0),
  (3, false, .if_icmp .lt 13, 3, 8, 0, 0, 0, 0),
  (6, false, .iload_n 1, 1, 0, 0, 0, 0, 0),
  (7, false, .ldc 254, 2, 0, 0, 0, jI 4194304, 0),
  (9, false, .if_icmp .gt 7, 3, 8, 0, 0, 0, 0),
  (12, false, .iconst 1, 1, 0, 0, 0, jI 1, 0),
  (13, false, .goto 4, 3, 9, 0, 0, 0, 0),
  (16, false, .iconst 0, 1, 0, 0, 0, jI 0, 0),
  (17, false, .invokestatic 166, 3, 100, 1, 0, 0, 0),
  (20, false, .aload_n 0, 1, 0, 0, 0, 0, 0),
  (21, false, .getfield 24, 3, 0, 0, 2, 0, 0),
  (24, false, .getfield 30, 3, 1, 1, 2, 0, 0),
  (27, false, .getfield 173, 3, 3, 0, 1, 0, 0),
  (30, false, .iload_n 1, 1, 0, 0, 0, 0, 0),
  (31, false, .invokestatic 255, 3, 127, 2, 0, 0, 0),
  (34, false, .ireturn, 1, 0, 0, 0, 0, 0)]
def cx_126 : mj_X := (1, [], [])
theorem tb_126 : mj_tab (mj_mt 126) cx_126 cd_126 mj_mh [(0, 0, 0), (5174, 0, 0), (0, 0, 0), (0, 0, 0), (5175, 0, 0), (0, 0, 0), (0, 0, 0), (0, 0, 0), (0, 0, 0), (5051, 0, 0), (0, 0, 0), (4203, 0, 0), (1192, 0, 0), (1076, 0, 0), (0, 0, 0), (5176, 0, 0), (0, 0, 0)] = true := mj_tab_f (by decide +kernel)
theorem ct_126 (G : mj_G) {h : mj_H} (L : isLay h) {d w : Int} (hr : isRr h 7 d w) (hd : -1048576 ≤ d ∧ d ≤ 1048576) (hd1 : d ≠ 1) (hd2 : d ≠ -1) {n : Int} (hn : -2147483648 ≤ n ∧ n < 2147483648) {e : Nat} {ps : List Nat} (hps : allP ps) (hne : n ≠ 0 → n.natAbs = 2 ^ e * prodL ps) : mj_Ct G (mj_mt 126) 1 6 [.ref 1, .int (jI n)] h (fun o h' => ((-4194304 ≤ n ∧ n ≤ 4194304) → (n = 0 → jC noT noT 0 h o h') ∧ (n ≠ 0 → jC noT noT (kro d n e ps) h o h')) ∧ (¬ (-4194304 ≤ n ∧ n ≤ 4194304) → jX noT noT 80 h o h')) := by
  refine mj_Ct_of mj_ok tb_126 rfl rfl (Nat.le_of_ble_eq_true rfl) (fun Run hR => ?_)
  have bad : ¬ (-4194304 ≤ n ∧ n ≤ 4194304) → ((-4194304 ≤ n ∧ n ≤ 4194304) → (n = 0 → jC noT noT 0 h (.threw (hT h)) (hNew h 80 0)) ∧ (n ≠ 0 → jC noT noT (kro d n e ps) h (.threw (hT h)) (hNew h 80 0))) ∧ (¬ (-4194304 ≤ n ∧ n ≤ 4194304) → jX noT noT 80 h (.threw (hT h)) (hNew h 80 0)) := fun z => ⟨fun y => absurd y z, fun _ => ⟨h, Fr.refl _ _ h, rfl, rfl⟩⟩
  refine hR 60 0 _ _ _ _ _ _ rfl ?_
  refine ⟨fun c => jcallE (ct_100b G h) (bad ?_), fun c => ⟨fun c2 => jcallE (ct_100b G h) (bad ?_), fun c2 => jcallV (ct_100a G h) ⟨L.K 1 rfl, _, L.R 1 0 _ rfl, L.K 2 rfl, _, L.R 2 1 _ rfl, L.K 7 rfl, ?_⟩⟩⟩
  · simp (disch := omega) only [mj_lcm, jI_lt, jI_le, jI_eq, jL_lt, jL_le, jL_eq, jI_lt0, jI_0le, jI_0lt, jI_le0, jI_eq0, jL_eq0, jI_L, jI_add, jI_sub, jI_mul, jI_neg, jL_add, jL_sub, jL_mul, jL_neg, jL_I, jI_div, jI_mod, jL_div, jL_mod] at c
    omega
  · simp (disch := omega) only [mj_lcm, jI_lt, jI_le, jI_eq, jL_lt, jL_le, jL_eq, jI_lt0, jI_0le, jI_0lt, jI_le0, jI_eq0, jL_eq0, jI_L, jI_add, jI_sub, jI_mul, jI_neg, jL_add, jL_sub, jL_mul, jL_neg, jL_I, jI_div, jI_mod, jL_div, jL_mod] at c c2
    omega
  · simp (disch := omega) only [mj_lcm, jI_lt, jI_le, jI_eq, jL_lt, jL_le, jL_eq, jI_lt0, jI_0le, jI_0lt, jI_le0, jI_eq0, jL_eq0, jI_L, jI_add, jI_sub, jI_mul, jI_neg, jL_add, jL_sub, jL_mul, jL_neg, jL_I, jI_div, jI_mod, jL_div, jL_mod] at c c2
    by_cases z : n = 0
    · subst z
      have c9 := ct_127z G (d := d) (by omega) hd1 hd2 h
      rw [← hr.2.1] at c9
      exact jcall c9 ⟨fun _ => ⟨fun _ => ⟨rfl, Fr.refl _ _ h⟩, fun y => absurd rfl y⟩, fun y => absurd ⟨by omega, by omega⟩ y⟩
    · have c9 := ct_127 G hps (hne z) z (d := d) (by omega) (by omega) h
      rw [← hr.2.1] at c9
      exact jcall c9 ⟨fun _ => ⟨fun y => absurd y z, fun _ => ⟨rfl, Fr.refl _ _ h⟩⟩, fun y => absurd ⟨by omega, by omega⟩ y⟩
/-- FormHouse.form(I)I; cuts at [] -/
def cd_135 : List mj_E := [(0, false, .iload_n 1, 1, 0, 0, 0, 0, 0),
  (1, false, .iconst 3, 1, 0, 0, 0, jI 3, 0),
  (2, false, .invokestatic 218, 3, 104, 2, 0, 0, 0),
  (5, false, .aload_n 0, 1, 0, 0, 0, 0, 0),
  (6, false, .getfield 77, 3, 0, 6, 2, 0, 0),
  (9, false, .iload_n 1, 1, 0, 0, 0, 0, 0),
  (10, false, .invokevirtual 230, 3, 107, 1, 6, 0, 0),
  (13, false, .l2i, 1, 0, 0, 0, 0, 0),
  (14, false, .ireturn, 1, 0, 0, 0, 0, 0)]
def cx_135 : mj_X := (1, [], [])
theorem tb_135 : mj_tab (mj_mt 135) cx_135 cd_135 mj_mh [(0, 0, 0), (0, 0, 0), (5077, 0, 0), (0, 0, 0), (4209, 0, 0), (0, 0, 0), (5099, 0, 0), (0, 0, 0), (0, 0, 0)] = true := mj_tab_f (by decide +kernel)
theorem ct_135 (G : mj_G) {h : mj_H} (L : isLay h) {f : Fm} (hf : isFm h 97 f) {x : Int} (hx : -2147483648 ≤ x ∧ x < 2147483648) : mj_Ct G (mj_mt 135) 1 6 [.ref 1, .int (jI x)] h (fun o h' => ((0 ≤ x ∧ x < 3) → jC noT noT (if x = 0 then f.1 else if x = 1 then f.2.1 else f.2.2) h o h') ∧ (¬ (0 ≤ x ∧ x < 3) → jX noT noT 81 h o h')) := by
  refine mj_Ct_of mj_ok tb_135 rfl rfl (Nat.le_of_ble_eq_true rfl) (fun Run hR => ?_)
  refine hR 60 0 _ _ _ _ _ _ rfl ?_
  by_cases zx : 0 ≤ x ∧ x < 3
  · refine jcallV (ct_104a G hx (n := 3) (by omega) zx h) ?_
    refine ⟨L.K 1 rfl, _, L.R 1 6 _ rfl, L.K 97 rfl, jcall (ct_107 G hf zx) ?_⟩
    refine ⟨fun _ => ⟨?_, Fr.refl _ _ h⟩, fun z => absurd zx z⟩
    rw [jL_I]
  · exact jcallE (ct_104b G hx (n := 3) (by omega) zx h) ⟨fun z => absurd z zx, fun _ => ⟨h, Fr.refl _ _ h, rfl, rfl⟩⟩
/-- FormHouse.divisor(I)I; cuts at [] -/
def cd_171 : List mj_E := [(0, false, .iload_n 1, 1, 0, 0, 0, 0, 0),
  (1, false, .aload_n 0, 1, 0, 0, 0, 0, 0),
  (2, false, .getfield 215, 3, 0, 18, 0, 0, 0),
  (5, false, .invokestatic 218, 3, 104, 2, 0, 0, 0),
  (8, false, .aload_n 0, 1, 0, 0, 0, 0, 0),
  (9, false, .getfield 106, 3, 0, 16, 2, 0, 0),
  (12, false, .iload_n 1, 1, 0, 0, 0, 0, 0),
  (13, false, .iaload, 1, 0, 0, 0, 0, 0),
  (14, false, .ireturn, 1, 0, 0, 0, 0, 0)]
def cx_171 : mj_X := (1, [], [])
theorem tb_171 : mj_tab (mj_mt 171) cx_171 cd_171 mj_mh [(0, 0, 0), (0, 0, 0), (4221, 0, 0), (5077, 0, 0), (0, 0, 0), (4219, 0, 0), (0, 0, 0), (0, 0, 0), (0, 0, 0)] = true := mj_tab_f (by decide +kernel)
theorem ct_171 (G : mj_G) {h : mj_H} (L : isLay h) {f : Nat} (hf : hI h 1 18 = jI f) (hf2 : f ≤ 256) {i : Int} (hi : -2147483648 ≤ i ∧ i < 2147483648) {D : Nat → Int} (hD : ∀ j, j < f → hI h 128 j = jI (D j)) : mj_Ct G (mj_mt 171) 1 6 [.ref 1, .int (jI i)] h (fun o h' => (0 ≤ i ∧ i < f → jC noT noT (D i.toNat) h o h') ∧ (¬ (0 ≤ i ∧ i < f) → jX noT noT 81 h o h')) := by
  refine mj_Ct_of mj_ok tb_171 rfl rfl (Nat.le_of_ble_eq_true rfl) (fun Run hR => ?_)
  refine hR 60 0 _ _ _ _ _ _ rfl ?_
  refine ⟨L.K 1 rfl, ?_⟩
  by_cases zi : 0 ≤ i ∧ i < f
  · have c := ct_104a G hi (n := f) (by omega) zi h
    rw [← hf] at c
    obtain ⟨v, e⟩ := nat_in (h := h) (c := 128) (i := i) (n := f) (L.N 127 rfl) hf2 (by decide) zi
    refine jcallV c ⟨L.K 1 rfl, _, L.R 1 16 _ rfl, Or.inl (L.K 128 rfl), v, ?_⟩
    rw [e]
    refine ⟨fun _ => ⟨?_, Fr.refl _ _ h⟩, fun z => absurd zi z⟩
    rw [hD _ (by omega)]
  · have c := ct_104b G hi (n := f) (by omega) zi h
    rw [← hf] at c
    exact jcallE c ⟨fun z => absurd z zi, fun _ => ⟨h, Fr.refl _ _ h, rfl, rfl⟩⟩
/-- FormHouse.root(I)I; cuts at [] -/
def cd_173 : List mj_E := [(0, false, .iload_n 1, 1, 0, 0, 0, 0, 0),
  (1, false, .aload_n 0, 1, 0, 0, 0, 0, 0),
  (2, false, .getfield 215, 3, 0, 18, 0, 0, 0),
  (5, false, .invokestatic 218, 3, 104, 2, 0, 0, 0),
  (8, false, .aload_n 0, 1, 0, 0, 0, 0, 0),
  (9, false, .getfield 110, 3, 0, 17, 2, 0, 0),
  (12, false, .iload_n 1, 1, 0, 0, 0, 0, 0),
  (13, false, .iaload, 1, 0, 0, 0, 0, 0),
  (14, false, .ireturn, 1, 0, 0, 0, 0, 0)]
def cx_173 : mj_X := (1, [], [])
theorem tb_173 : mj_tab (mj_mt 173) cx_173 cd_173 mj_mh [(0, 0, 0), (0, 0, 0), (4221, 0, 0), (5077, 0, 0), (0, 0, 0), (4220, 0, 0), (0, 0, 0), (0, 0, 0), (0, 0, 0)] = true := mj_tab_f (by decide +kernel)
theorem ct_173 (G : mj_G) {h : mj_H} (L : isLay h) {f : Nat} (hf : hI h 1 18 = jI f) (hf2 : f ≤ 256) {i : Int} (hi : -2147483648 ≤ i ∧ i < 2147483648) {D : Nat → Int} (hD : ∀ j, j < f → hI h 129 j = jI (D j)) : mj_Ct G (mj_mt 173) 1 6 [.ref 1, .int (jI i)] h (fun o h' => (0 ≤ i ∧ i < f → jC noT noT (D i.toNat) h o h') ∧ (¬ (0 ≤ i ∧ i < f) → jX noT noT 81 h o h')) := by
  refine mj_Ct_of mj_ok tb_173 rfl rfl (Nat.le_of_ble_eq_true rfl) (fun Run hR => ?_)
  refine hR 60 0 _ _ _ _ _ _ rfl ?_
  refine ⟨L.K 1 rfl, ?_⟩
  by_cases zi : 0 ≤ i ∧ i < f
  · have c := ct_104a G hi (n := f) (by omega) zi h
    rw [← hf] at c
    obtain ⟨v, e⟩ := nat_in (h := h) (c := 129) (i := i) (n := f) (L.N 128 rfl) hf2 (by decide) zi
    refine jcallV c ⟨L.K 1 rfl, _, L.R 1 17 _ rfl, Or.inl (L.K 129 rfl), v, ?_⟩
    rw [e]
    refine ⟨fun _ => ⟨?_, Fr.refl _ _ h⟩, fun z => absurd zi z⟩
    rw [hD _ (by omega)]
  · have c := ct_104b G hi (n := f) (by omega) zi h
    rw [← hf] at c
    exact jcallE c ⟨fun z => absurd z zi, fun _ => ⟨h, Fr.refl _ _ h, rfl, rfl⟩⟩
/-- FormHouse.teller(I)I; cuts at [] -/
def cd_177 : List mj_E := [(0, false, .iload_n 1, 1, 0, 0, 0, 0, 0),
  (1, false, .aload_n 0, 1, 0, 0, 0, 0, 0),
  (2, false, .getfield 146, 3, 0, 22, 0, 0, 0),
  (5, false, .invokestatic 218, 3, 104, 2, 0, 0, 0),
  (8, false, .aload_n 0, 1, 0, 0, 0, 0, 0),
  (9, false, .getfield 117, 3, 0, 21, 2, 0, 0),
  (12, false, .iload_n 1, 1, 0, 0, 0, 0, 0),
  (13, false, .saload, 1, 0, 0, 0, 0, 0),
  (14, false, .ireturn, 1, 0, 0, 0, 0, 0)]
def cx_177 : mj_X := (1, [], [])
theorem tb_177 : mj_tab (mj_mt 177) cx_177 cd_177 mj_mh [(0, 0, 0), (0, 0, 0), (4225, 0, 0), (5077, 0, 0), (0, 0, 0), (4224, 0, 0), (0, 0, 0), (0, 0, 0), (0, 0, 0)] = true := mj_tab_f (by decide +kernel)
theorem ct_177 (G : mj_G) {h : mj_H} (L : isLay h) {ts : List Nat} (hn : hI h 1 22 = jI ts.length) (hn2 : ts.length ≤ 4096) (ht : ∀ i t, ts[i]? = some t → hI h 131 i = jI (t : Nat)) {i : Int} (hi : -2147483648 ≤ i ∧ i < 2147483648) : mj_Ct G (mj_mt 177) 1 6 [.ref 1, .int (jI i)] h (fun o h' => (0 ≤ i ∧ i < ts.length → ∀ t, ts[i.toNat]? = some t → jC noT noT (t : Nat) h o h') ∧ (¬ (0 ≤ i ∧ i < ts.length) → jX noT noT 81 h o h')) := by
  refine mj_Ct_of mj_ok tb_177 rfl rfl (Nat.le_of_ble_eq_true rfl) (fun Run hR => ?_)
  refine hR 60 0 _ _ _ _ _ _ rfl ?_
  refine ⟨L.K 1 rfl, ?_⟩
  by_cases zi : 0 ≤ i ∧ i < ts.length
  · have c := ct_104a G hi (n := ts.length) (by omega) zi h
    rw [← hn] at c
    obtain ⟨v, e⟩ := nat_in (h := h) (c := 131) (i := i) (n := ts.length) (L.N 130 rfl) hn2 (by decide) zi
    refine jcallV c ⟨L.K 1 rfl, _, L.R 1 21 _ rfl, L.K 131 rfl, v, ?_⟩
    rw [e]
    refine ⟨fun _ t hti => ⟨?_, Fr.refl _ _ h⟩, fun z => absurd zi z⟩
    rw [ht _ t hti]
  · have c := ct_104b G hi (n := ts.length) (by omega) zi h
    rw [← hn] at c
    exact jcallE c ⟨fun z => absurd z zi, fun _ => ⟨h, Fr.refl _ _ h, rfl, rfl⟩⟩
