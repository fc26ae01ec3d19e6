/-! the model: steps of solutions, and which solution is better -/
theorem isS.put {h h' : mj_H} {n t : Nat} {V : Nat → Int} {v : Int} (a : isS h n V) (f : FrD t n h h') (d : isD h' t n v) (hr : rgD n v) : isS h' n (upN V t v) := by
  obtain ⟨a1, a2, a3⟩ := a
  refine ⟨f.dg a1, f.ok d a2, fun i hi => ?_⟩
  unfold upN
  by_cases z : i = t
  · rw [if_pos z, z]
    exact ⟨d, hr⟩
  · rw [if_neg z]
    exact ⟨(a3 i hi).1.o f z a1.2.2 a1.2.2, (a3 i hi).2⟩
theorem isS.congr {h : mj_H} {n : Nat} {V W : Nat → Int} (a : isS h n V) (e : ∀ i, i < 4 → V i = W i) : isS h n W := ⟨a.1, a.2.1, fun i hi => by rw [← e i hi]; exact a.2.2 i hi⟩
theorem isS.tmp {h h' : mj_H} {n : Nat} {V : Nat → Int} {v : Int} (a : isS h n V) (f : FrD 4 n h h') (d : isD h' 4 n v) : isS h' n V := by
  obtain ⟨a1, a2, a3⟩ := a
  exact ⟨f.dg a1, f.ok d a2, fun i hi => ⟨(a3 i hi).1.o f (by omega) a1.2.2 a1.2.2, (a3 i hi).2⟩⟩
/-- not the least number that has room -/
def stR (n : Nat) (v : Int) : Prop := -(32768 * pB (n - 1)) < v ∧ v < 32768 * pB (n - 1)
theorem stR.rg {n : Nat} {v : Int} (a : stR n v) : rgD n v := ⟨Int.le_of_lt a.1, a.2⟩
theorem stR.neg {n : Nat} {v : Int} (a : stR n v) : stR n (-v) := by
  obtain ⟨a1, a2⟩ := a
  constructor <;> omega
theorem pB_up3 {m : Nat} (hm : 8 ≤ m) : pB (m - 1) = pB (m - 4) * 281474976710656 := by
  have e1 := pB_s (m - 4)
  have e2 := pB_s (m - 3)
  have e3 := pB_s (m - 2)
  rw [show m - 4 + 1 = m - 3 by omega] at e1
  rw [show m - 3 + 1 = m - 2 by omega] at e2
  rw [show m - 2 + 1 = m - 1 by omega] at e3
  omega
theorem room_st {m : Nat} (hm : 8 ≤ m) {v : Int} (h : roomP m v) : stR m v := by
  have := pB_up3 hm
  have hp := pB_pos (m - 4)
  obtain ⟨h1, h2⟩ := h
  constructor <;> omega
theorem room_mul {m : Nat} (hm : 8 ≤ m) {k x y : Int} (hk : -4294967296 ≤ k ∧ k ≤ 4294967296) (hx : roomP m x) (hy : roomP m y) : stR m (k * y + x) := by
  have e := pB_up3 hm
  have hp := pB_pos (m - 4)
  obtain ⟨x1, x2⟩ := hx
  obtain ⟨y1, y2⟩ := hy
  have hb : (k * y).natAbs ≤ 4294967296 * (pB (m - 4)).toNat := ab_mul (by omega) (by omega)
  have hq : ((pB (m - 4)).toNat : Int) = pB (m - 4) := Int.toNat_of_nonneg (Int.le_of_lt hp)
  unfold stR
  rw [e]
  generalize pB (m - 4) = P at *
  generalize k * y = K at *
  omega
def bkV (k : Int) (V : Nat → Int) : Nat → Int := upN (upN V 0 (-(V 1))) 1 (k * V 1 + V 0)
def onV (k : Int) (V : Nat → Int) : Nat → Int := upN (upN V 1 (-(V 0))) 0 (k * V 0 + V 1)
/-- behind a step: the numbers of digits, and the room -/
def stP (n m : Nat) (V W : Nat → Int) (h' : mj_H) : Prop := isS h' m W ∧ stR m (W 0) ∧ stR m (W 1) ∧ (m = n ∨ (m = n + 4 ∧ ¬ (roomP n (V 0) ∧ roomP n (V 1))))
/-- FormHouseModel.back(J)V; cuts at [4, 12, 18, 23] -/
def cd_247 : List mj_E := [(0, false, .aload_n 0, 1, 0, 0, 0, 0, 0),
  (1, false, .invokevirtual 329, 3, 248, 0, 17, 0, 0),
  (4, true, .aload_n 0, 1, 0, 0, 0, 0, 0),
  (5, false, .iconst 4, 1, 0, 0, 0, jI 4, 0),
  (6, false, .lload_n 1, 1, 0, 0, 0, 0, 0),
  (7, false, .iconst 1, 1, 0, 0, 0, jI 1, 0),
  (8, false, .iconst 0, 1, 0, 0, 0, jI 0, 0),
  (9, false, .invokevirtual 332, 3, 250, 4, 17, 0, 0),
  (12, true, .aload_n 0, 1, 0, 0, 0, 0, 0),
  (13, false, .iconst 0, 1, 0, 0, 0, jI 0, 0),
  (14, false, .iconst 1, 1, 0, 0, 0, jI 1, 0),
  (15, false, .invokevirtual 336, 3, 240, 2, 17, 0, 0),
  (18, true, .aload_n 0, 1, 0, 0, 0, 0, 0),
  (19, false, .iconst 0, 1, 0, 0, 0, jI 0, 0),
  (20, false, .invokevirtual 339, 3, 241, 1, 17, 0, 0),
  (23, true, .aload_n 0, 1, 0, 0, 0, 0, 0),
  (24, false, .iconst 1, 1, 0, 0, 0, jI 1, 0),
  (25, false, .iconst 4, 1, 0, 0, 0, jI 4, 0),
  (26, false, .invokevirtual 336, 3, 240, 2, 17, 0, 0),
  (29, false, .return_, 1, 0, 0, 0, 0, 0)]
def cx_247 : mj_X := (0, [], [])
theorem tb_247 : mj_tab (mj_mt 247) cx_247 cd_247 mj_mh [(0, 0, 0), (8141, 0, 0), (0, 0, 0), (0, 0, 0), (0, 0, 0), (0, 0, 0), (0, 0, 0), (8149, 0, 0), (0, 0, 0), (0, 0, 0), (0, 0, 0), (8108, 0, 0), (0, 0, 0), (0, 0, 0), (8112, 0, 0), (0, 0, 0), (0, 0, 0), (0, 0, 0), (8108, 0, 0), (0, 0, 0)] = true := mj_tab_f (by decide +kernel)
theorem ct_247 (G : mj_G) {h : mj_H} (L : isLam h) {n : Nat} {V : Nat → Int} (hs : isS h n V) (hcap : n ≤ 2196) {k : Int} (hk : -4294967296 ≤ k ∧ k ≤ 4294967296) : mj_Ct G (mj_mt 247) 0 0 [.ref 1412, .long (jL k)] h (fun o h' => o = .returned none ∧ (∃ m, stP n m V (bkV k V) h') ∧ FrM i48 noT s40 h h') := by
  refine mj_Ct_of mj_ok tb_247 rfl rfl (Nat.le_of_ble_eq_true rfl) (fun Run hR => ?_)
  have r4 : ∀ (m : Nat) (h1 : mj_H), isS h1 m V → roomP m (V 0) → roomP m (V 1) → (m = n ∨ (m = n + 4 ∧ ¬ (roomP n (V 0) ∧ roomP n (V 1)))) → FrM i48 noT s40 h h1 → Run 4 [some (.ref 1412), some (.long (jL k)), none] [] h1 (0, 0) := by
    intro m h1 s1 ro0 ro1 hmn F1
    have L1 := F1.lay L
    have m8 := s1.1.2.1
    have st1 := room_mul m8 hk ro0 ro1
    have st0 := (room_st m8 ro1).neg
    have r23 : ∀ h4 : mj_H, isS h4 m (upN (upN V 0 (V 1)) 0 (-(V 1))) → isD h4 4 m (k * V 1 + V 0) → FrM i48 noT s40 h h4 → Run 23 [some (.ref 1412), some (.long (jL k)), none] [] h4 (0, 0) := by
      intro h4 s4 d4 F4
      have L4 := F4.lay L
      refine hR 60 15 _ _ _ _ _ _ rfl ?_
      refine ⟨L4.K 1412 rfl, jcallP (ct_240' G L4.Md (t := 1) (f := 4) (by omega) (by omega) (by omega) s4.1 d4) ?_⟩
      rintro o h5 ⟨rfl, d5, F5⟩
      refine ⟨rfl, ⟨m, (s4.put F5 d5 st1.rg).congr (fun i hi => ?_), st0, st1, hmn⟩, F4.trans F5.toM⟩
      show upN (upN (upN V 0 (V 1)) 0 (-(V 1))) 1 (k * V 1 + V 0) i = upN (upN V 0 (-(V 1))) 1 (k * V 1 + V 0) i
      unfold upN
      split
      · rfl
      · split
        · rfl
        · rfl
    have r18 : ∀ h3 : mj_H, isS h3 m (upN V 0 (V 1)) → isD h3 4 m (k * V 1 + V 0) → FrM i48 noT s40 h h3 → Run 18 [some (.ref 1412), some (.long (jL k)), none] [] h3 (0, 0) := by
      intro h3 s3 d3 F3
      have L3 := F3.lay L
      refine hR 60 12 _ _ _ _ _ _ rfl ?_
      refine ⟨L3.K 1412 rfl, jcallP (ct_241 G L3.Md (i := 0) (by omega) s3.1 (v := V 1) (s3.2.2 0 (by omega)).1) ?_⟩
      rintro o h4 ⟨rfl, d4, F4⟩
      exact r23 h4 (s3.put F4 d4 st0.rg) (d3.o F4 (by omega) s3.1.2.2 s3.1.2.2) (F3.trans F4.toM)
    have r12 : ∀ h2 : mj_H, isS h2 m V → isD h2 4 m (k * V 1 + V 0) → FrM i48 noT s40 h h2 → Run 12 [some (.ref 1412), some (.long (jL k)), none] [] h2 (0, 0) := by
      intro h2 s2 d2 F2
      have L2 := F2.lay L
      refine hR 60 8 _ _ _ _ _ _ rfl ?_
      refine ⟨L2.K 1412 rfl, jcallP (ct_240' G L2.Md (t := 0) (f := 1) (by omega) (by omega) (by omega) s2.1 (s2.2.2 1 (by omega)).1) ?_⟩
      rintro o h3 ⟨rfl, d3, F3⟩
      exact r18 h3 (s2.put F3 d3 (room_st m8 ro1).rg) (d2.o F3 (by omega) s2.1.2.2 s2.1.2.2) (F2.trans F3.toM)
    refine hR 60 2 _ _ _ _ _ _ rfl ?_
    refine ⟨L1.K 1412 rfl, jcallP (ct_250 G L1.Md (t := 4) (i := 1) (j := 0) (by omega) (by omega) (by omega) s1.1 (by omega) (s1.2.2 1 (by omega)).1 (s1.2.2 0 (by omega)).1) ?_⟩
    rintro o h2 ⟨rfl, d2, F2⟩
    exact r12 h2 (s1.tmp F2 d2) d2 (F1.trans F2.toM)
  refine hR 60 0 _ _ _ _ _ _ rfl ?_
  refine ⟨L.K 1412 rfl, jcallP (ct_248 G L hs hcap) ?_⟩
  rintro o h1 ⟨rfl, ⟨m, s1, ro0, ro1, hmn⟩, F1⟩
  exact r4 m h1 s1 ro0 ro1 hmn F1
/-- FormHouseModel.on(J)V; cuts at [4, 12, 18, 23] -/
def cd_251 : List mj_E := [(0, false, .aload_n 0, 1, 0, 0, 0, 0, 0),
  (1, false, .invokevirtual 329, 3, 248, 0, 17, 0, 0),
  (4, true, .aload_n 0, 1, 0, 0, 0, 0, 0),
  (5, false, .iconst 4, 1, 0, 0, 0, jI 4, 0),
  (6, false, .lload_n 1, 1, 0, 0, 0, 0, 0),
  (7, false, .iconst 0, 1, 0, 0, 0, jI 0, 0),
  (8, false, .iconst 1, 1, 0, 0, 0, jI 1, 0),
  (9, false, .invokevirtual 332, 3, 250, 4, 17, 0, 0),
  (12, true, .aload_n 0, 1, 0, 0, 0, 0, 0),
  (13, false, .iconst 1, 1, 0, 0, 0, jI 1, 0),
  (14, false, .iconst 0, 1, 0, 0, 0, jI 0, 0),
  (15, false, .invokevirtual 336, 3, 240, 2, 17, 0, 0),
  (18, true, .aload_n 0, 1, 0, 0, 0, 0, 0),
  (19, false, .iconst 1, 1, 0, 0, 0, jI 1, 0),
  (20, false, .invokevirtual 339, 3, 241, 1, 17, 0, 0),
  (23, true, .aload_n 0, 1, 0, 0, 0, 0, 0),
  (24, false, .iconst 0, 1, 0, 0, 0, jI 0, 0),
  (25, false, .iconst 4, 1, 0, 0, 0, jI 4, 0),
  (26, false, .invokevirtual 336, 3, 240, 2, 17, 0, 0),
  (29, false, .return_, 1, 0, 0, 0, 0, 0)]
def cx_251 : mj_X := (0, [], [])
theorem tb_251 : mj_tab (mj_mt 251) cx_251 cd_251 mj_mh [(0, 0, 0), (8141, 0, 0), (0, 0, 0), (0, 0, 0), (0, 0, 0), (0, 0, 0), (0, 0, 0), (8149, 0, 0), (0, 0, 0), (0, 0, 0), (0, 0, 0), (8108, 0, 0), (0, 0, 0), (0, 0, 0), (8112, 0, 0), (0, 0, 0), (0, 0, 0), (0, 0, 0), (8108, 0, 0), (0, 0, 0)] = true := mj_tab_f (by decide +kernel)
theorem ct_251 (G : mj_G) {h : mj_H} (L : isLam h) {n : Nat} {V : Nat → Int} (hs : isS h n V) (hcap : n ≤ 2196) {k : Int} (hk : -4294967296 ≤ k ∧ k ≤ 4294967296) : mj_Ct G (mj_mt 251) 0 0 [.ref 1412, .long (jL k)] h (fun o h' => o = .returned none ∧ (∃ m, stP n m V (onV k V) h') ∧ FrM i48 noT s40 h h') := by
  refine mj_Ct_of mj_ok tb_251 rfl rfl (Nat.le_of_ble_eq_true rfl) (fun Run hR => ?_)
  have r4 : ∀ (m : Nat) (h1 : mj_H), isS h1 m V → roomP m (V 0) → roomP m (V 1) → (m = n ∨ (m = n + 4 ∧ ¬ (roomP n (V 0) ∧ roomP n (V 1)))) → FrM i48 noT s40 h h1 → Run 4 [some (.ref 1412), some (.long (jL k)), none] [] h1 (0, 0) := by
    intro m h1 s1 ro0 ro1 hmn F1
    have L1 := F1.lay L
    have m8 := s1.1.2.1
    have st1 := room_mul m8 hk ro1 ro0
    have st0 := (room_st m8 ro0).neg
    have r23 : ∀ h4 : mj_H, isS h4 m (upN (upN V 1 (V 0)) 1 (-(V 0))) → isD h4 4 m (k * V 0 + V 1) → FrM i48 noT s40 h h4 → Run 23 [some (.ref 1412), some (.long (jL k)), none] [] h4 (0, 0) := by
      intro h4 s4 d4 F4
      have L4 := F4.lay L
      refine hR 60 15 _ _ _ _ _ _ rfl ?_
      refine ⟨L4.K 1412 rfl, jcallP (ct_240' G L4.Md (t := 0) (f := 4) (by omega) (by omega) (by omega) s4.1 d4) ?_⟩
      rintro o h5 ⟨rfl, d5, F5⟩
      refine ⟨rfl, ⟨m, (s4.put F5 d5 st1.rg).congr (fun i hi => ?_), st1, st0, hmn⟩, F4.trans F5.toM⟩
      show upN (upN (upN V 1 (V 0)) 1 (-(V 0))) 0 (k * V 0 + V 1) i = upN (upN V 1 (-(V 0))) 0 (k * V 0 + V 1) i
      unfold upN
      split
      · rfl
      · split
        · rfl
        · rfl
    have r18 : ∀ h3 : mj_H, isS h3 m (upN V 1 (V 0)) → isD h3 4 m (k * V 0 + V 1) → FrM i48 noT s40 h h3 → Run 18 [some (.ref 1412), some (.long (jL k)), none] [] h3 (0, 0) := by
      intro h3 s3 d3 F3
      have L3 := F3.lay L
      refine hR 60 12 _ _ _ _ _ _ rfl ?_
      refine ⟨L3.K 1412 rfl, jcallP (ct_241 G L3.Md (i := 1) (by omega) s3.1 (v := V 0) (s3.2.2 1 (by omega)).1) ?_⟩
      rintro o h4 ⟨rfl, d4, F4⟩
      exact r23 h4 (s3.put F4 d4 st0.rg) (d3.o F4 (by omega) s3.1.2.2 s3.1.2.2) (F3.trans F4.toM)
    have r12 : ∀ h2 : mj_H, isS h2 m V → isD h2 4 m (k * V 0 + V 1) → FrM i48 noT s40 h h2 → Run 12 [some (.ref 1412), some (.long (jL k)), none] [] h2 (0, 0) := by
      intro h2 s2 d2 F2
      have L2 := F2.lay L
      refine hR 60 8 _ _ _ _ _ _ rfl ?_
      refine ⟨L2.K 1412 rfl, jcallP (ct_240' G L2.Md (t := 1) (f := 0) (by omega) (by omega) (by omega) s2.1 (s2.2.2 0 (by omega)).1) ?_⟩
      rintro o h3 ⟨rfl, d3, F3⟩
      exact r18 h3 (s2.put F3 d3 (room_st m8 ro0).rg) (d2.o F3 (by omega) s2.1.2.2 s2.1.2.2) (F2.trans F3.toM)
    refine hR 60 2 _ _ _ _ _ _ rfl ?_
    refine ⟨L1.K 1412 rfl, jcallP (ct_250 G L1.Md (t := 4) (i := 0) (j := 1) (by omega) (by omega) (by omega) s1.1 (by omega) (s1.2.2 0 (by omega)).1 (s1.2.2 1 (by omega)).1) ?_⟩
    rintro o h2 ⟨rfl, d2, F2⟩
    exact r12 h2 (s1.tmp F2 d2) d2 (F1.trans F2.toM)
  refine hR 60 0 _ _ _ _ _ _ rfl ?_
  refine ⟨L.K 1412 rfl, jcallP (ct_248 G L hs hcap) ?_⟩
  rintro o h1 ⟨rfl, ⟨m, s1, ro0, ro1, hmn⟩, F1⟩
  exact r4 m h1 s1 ro0 ro1 hmn F1
/-- FormHouseModel.keepBest()V; cuts at [6] -/
def cd_253 : List mj_E := [(0, false, .aload_n 0, 1, 0, 0, 0, 0, 0),
  (1, false, .iconst 2, 1, 0, 0, 0, jI 2, 0),
  (2, false, .iconst 0, 1, 0, 0, 0, jI 0, 0),
  (3, false, .invokevirtual 336, 3, 240, 2, 17, 0, 0),
  (6, true, .aload_n 0, 1, 0, 0, 0, 0, 0),
  (7, false, .iconst 3, 1, 0, 0, 0, jI 3, 0),
  (8, false, .iconst 1, 1, 0, 0, 0, jI 1, 0),
  (9, false, .invokevirtual 336, 3, 240, 2, 17, 0, 0),
  (12, false, .return_, 1, 0, 0, 0, 0, 0)]
def cx_253 : mj_X := (0, [], [])
theorem tb_253 : mj_tab (mj_mt 253) cx_253 cd_253 mj_mh [(0, 0, 0), (0, 0, 0), (0, 0, 0), (8108, 0, 0), (0, 0, 0), (0, 0, 0), (0, 0, 0), (8108, 0, 0), (0, 0, 0)] = true := mj_tab_f (by decide +kernel)
theorem ct_253 (G : mj_G) {h : mj_H} (L : isLam h) {n : Nat} {V : Nat → Int} (hs : isS h n V) : mj_Ct G (mj_mt 253) 0 0 [.ref 1412] h (fun o h' => o = .returned none ∧ isS h' n (upN (upN V 2 (V 0)) 3 (V 1)) ∧ FrM i48 noT s40 h h') := by
  refine mj_Ct_of mj_ok tb_253 rfl rfl (Nat.le_of_ble_eq_true rfl) (fun Run hR => ?_)
  have r6 : ∀ h1 : mj_H, isS h1 n (upN V 2 (V 0)) → FrM i48 noT s40 h h1 → Run 6 [some (.ref 1412)] [] h1 (0, 0) := by
    intro h1 s1 F1
    have L1 := F1.lay L
    refine hR 60 4 _ _ _ _ _ _ rfl ?_
    refine ⟨L1.K 1412 rfl, jcallP (ct_240' G L1.Md (t := 3) (f := 1) (by omega) (by omega) (by omega) s1.1 (v := V 1) (s1.2.2 1 (by omega)).1) ?_⟩
    rintro o h2 ⟨rfl, d2, F2⟩
    exact ⟨rfl, s1.put F2 d2 (hs.2.2 1 (by omega)).2, F1.trans F2.toM⟩
  refine hR 60 0 _ _ _ _ _ _ rfl ?_
  refine ⟨L.K 1412 rfl, jcallP (ct_240' G L.Md (t := 2) (f := 0) (by omega) (by omega) (by omega) hs.1 (hs.2.2 0 (by omega)).1) ?_⟩
  rintro o h2 ⟨rfl, d2, F2⟩
  exact r6 h2 (hs.put F2 d2 (hs.2.2 0 (by omega)).2) F2.toM
/-- FormHouseModel.normal()V; cuts at [24, 29] -/
def cd_252 : List mj_E := [(0, false, .aload_n 0, 1, 0, 0, 0, 0, 0),
  (1, false, .iconst 1, 1, 0, 0, 0, jI 1, 0),
  (2, false, .invokevirtual 322, 3, 238, 1, 17, 0, 0),
  (5, false, .ifCond .ne 19, 3, 12, 0, 0, 0, 0),
  (8, false, .aload_n 0, 1, 0, 0, 0, 0, 0),
  (9, false, .iconst 1, 1, 0, 0, 0, jI 1, 0),
  (10, false, .invokevirtual 342, 3, 236, 1, 17, 0, 0),
  (13, false, .ifCond .eq 21, 3, 18, 0, 0, 0, 0),
  (16, false, .aload_n 0, 1, 0, 0, 0, 0, 0),
  (17, false, .iconst 0, 1, 0, 0, 0, jI 0, 0),
  (18, false, .invokevirtual 322, 3, 238, 1, 17, 0, 0),
  (21, false, .ifCond .eq 13, 3, 18, 0, 0, 0, 0),
  (24, true, .aload_n 0, 1, 0, 0, 0, 0, 0),
  (25, false, .iconst 0, 1, 0, 0, 0, jI 0, 0),
  (26, false, .invokevirtual 339, 3, 241, 1, 17, 0, 0),
  (29, true, .aload_n 0, 1, 0, 0, 0, 0, 0),
  (30, false, .iconst 1, 1, 0, 0, 0, jI 1, 0),
  (31, false, .invokevirtual 339, 3, 241, 1, 17, 0, 0),
  (34, false, .return_, 1, 0, 0, 0, 0, 0)]
def cx_252 : mj_X := (0, [], [])
theorem tb_252 : mj_tab (mj_mt 252) cx_252 cd_252 mj_mh [(0, 0, 0), (0, 0, 0), (8100, 0, 0), (0, 0, 0), (0, 0, 0), (0, 0, 0), (8092, 0, 0), (0, 0, 0), (0, 0, 0), (0, 0, 0), (8100, 0, 0), (0, 0, 0), (0, 0, 0), (0, 0, 0), (8112, 0, 0), (0, 0, 0), (0, 0, 0), (8112, 0, 0), (0, 0, 0)] = true := mj_tab_f (by decide +kernel)
theorem ct_252 (G : mj_G) {h : mj_H} (L : isLam h) {n : Nat} {V : Nat → Int} (hs : isS h n V) (h0 : stR n (V 0)) (h1 : stR n (V 1)) : mj_Ct G (mj_mt 252) 0 0 [.ref 1412] h (fun o h' => o = .returned none ∧ isS h' n (upN (upN V 0 (trn (V 0, V 1)).1) 1 (trn (V 0, V 1)).2) ∧ FrM i48 noT s40 h h') := by
  have hm := L.Md
  refine mj_Ct_of mj_ok tb_252 rfl rfl (Nat.le_of_ble_eq_true rfl) (fun Run hR => ?_)
  have r24 : V 1 < 0 ∨ (V 1 = 0 ∧ V 0 < 0) → Run 24 [some (.ref 1412)] [] h (0, 0) := by
    intro z
    have r29 : ∀ h2 : mj_H, isS h2 n (upN V 0 (-(V 0))) → FrM i48 noT s40 h h2 → Run 29 [some (.ref 1412)] [] h2 (0, 0) := by
      intro h2 s2 F2
      have L2 := F2.lay L
      refine hR 60 15 _ _ _ _ _ _ rfl ?_
      refine ⟨L2.K 1412 rfl, jcallP (ct_241 G L2.Md (i := 1) (by omega) s2.1 (v := V 1) (s2.2.2 1 (by omega)).1) ?_⟩
      rintro o h3 ⟨rfl, d3, F3⟩
      refine ⟨rfl, ?_, F2.trans F3.toM⟩
      have e : trn (V 0, V 1) = (-(V 0), -(V 1)) := by
        unfold trn
        rw [if_neg (by show ¬ (0 < V 1 ∨ (V 1 = 0 ∧ 0 < V 0)); omega)]
      rw [e]
      exact s2.put F3 d3 h1.neg.rg
    refine hR 60 12 _ _ _ _ _ _ rfl ?_
    refine ⟨hm.1, jcallP (ct_241 G hm (i := 0) (by omega) hs.1 (hs.2.2 0 (by omega)).1) ?_⟩
    rintro o h2 ⟨rfl, d2, F2⟩
    exact r29 h2 (hs.put F2 d2 h0.neg.rg) F2.toM
  have stay : ¬ (V 1 < 0 ∨ (V 1 = 0 ∧ V 0 < 0)) → isS h n (upN (upN V 0 (trn (V 0, V 1)).1) 1 (trn (V 0, V 1)).2) := by
    intro z
    have e : (trn (V 0, V 1)).1 = V 0 ∧ (trn (V 0, V 1)).2 = V 1 := by
      unfold trn
      by_cases q : 0 < V 1 ∨ (V 1 = 0 ∧ 0 < V 0)
      · rw [if_pos q]
        exact ⟨rfl, rfl⟩
      · rw [if_neg q]
        show -(V 0) = V 0 ∧ -(V 1) = V 1
        omega
    refine hs.congr (fun i hi => ?_)
    unfold upN
    rw [e.1, e.2]
    split
    · rename_i q
      rw [q]
    · split
      · rename_i q
        rw [q]
      · rfl
  refine hR 60 0 _ _ _ _ _ _ rfl ?_
  refine ⟨hm.1, jcall (ct_238' G hm (i := 1) (by omega) hs.1 (hs.2.2 1 (by omega)).1 (hs.2.2 1 (by omega)).2) ?_⟩
  by_cases z : V 1 < 0
  · rw [if_pos z]
    exact ⟨fun c => absurd c (by decide), fun c => r24 (Or.inl z)⟩
  · rw [if_neg z]
    refine ⟨fun c => ⟨hm.1, jcall (ct_236 G hm (i := 1) (by omega) hs.1 (hs.2.2 1 (by omega)).1 (hs.2.2 1 (by omega)).2) ?_⟩, fun c => absurd rfl c⟩
    by_cases z2 : V 1 = 0
    · rw [if_pos z2]
      refine ⟨fun c => absurd c (by decide), fun c => ⟨hm.1, jcall (ct_238' G hm (i := 0) (by omega) hs.1 (hs.2.2 0 (by omega)).1 (hs.2.2 0 (by omega)).2) ?_⟩⟩
      by_cases z3 : V 0 < 0
      · rw [if_pos z3]
        exact ⟨fun c => absurd c (by decide), fun c => r24 (Or.inr ⟨z2, z3⟩)⟩
      · rw [if_neg z3]
        exact ⟨fun c => ⟨rfl, stay (by omega), FrM.refl _ _ _ h⟩, fun c => absurd rfl c⟩
    · rw [if_neg z2]
      exact ⟨fun c => ⟨rfl, stay (by omega), FrM.refl _ _ _ h⟩, fun c => absurd rfl c⟩
