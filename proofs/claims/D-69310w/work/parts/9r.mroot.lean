/-! the model: the root of a solution -/
theorem emod_mul3 (a b c t : Int) : (a.tmod t * (b % t)) % t * (c % t) % t = a * b * c % t := by
  have h1 : (a.tmod t * (b % t)) % t = a * b % t := by
    have e : a.tmod t = a + t * -(a.tdiv t) := by
      have := Int.mul_tdiv_add_tmod a t
      rw [Int.mul_neg]
      omega
    rw [e, Int.add_mul, Int.mul_assoc, Int.add_mul_emod_self_left, Int.mul_emod, Int.emod_emod, ← Int.mul_emod]
  rw [h1, ← Int.mul_emod]
theorem emod_mid (f x s y q t : Int) : (f % t) * (((x % t) * (s % t) + (y % t) * (q % t)) % t) % t = f * (x * s + y * q) % t := by
  have h1 : ((x % t) * (s % t) + (y % t) * (q % t)) % t = (x * s + y * q) % t := by
    rw [Int.add_emod, ← Int.mul_emod, ← Int.mul_emod, ← Int.add_emod]
  rw [h1, ← Int.mul_emod]
theorem tm_lt {a t : Int} (ht : 0 < t) : -t < a.tmod t ∧ a.tmod t < t := by
  have h1 : (a.tmod t).natAbs < t.natAbs := by
    rw [Int.natAbs_tmod]
    exact Nat.mod_lt _ (by omega)
  omega
theorem pr_bd {a b t : Int} (ht : 0 < t ∧ t ≤ 2000000) (ha : -t < a ∧ a < t) (hb : 0 ≤ b ∧ b < t) : -4000000000000 ≤ a * b ∧ a * b ≤ 4000000000000 := by
  have := ab_mul (show a.natAbs ≤ 2000000 by omega) (show b.natAbs ≤ 2000000 by omega)
  generalize a * b = c at *
  omega
def rootE (f : Fm) (x y q s : Int) : Int := 2 * f.1 * x * q + f.2.1 * (x * s + y * q) + 2 * f.2.2 * y * s
abbrev l231 (x0 y0 g m : Int) (x y t : Int64) (x15 x16 x17 x18 x19 x20 : Option Value) : mj_Ls := [some (.ref 1412), some (.long (jL x0)), none, some (.long (jL y0)), none, some (.long (jL g)), none, some (.long (jL m)), none, some (.long x), none, some (.long y), none, some (.long t), none, x15, x16, x17, x18, x19, x20]
/-- FormHouseModel.rootFor(JJJJ)J; cuts at [6, 12, 20, 28, 69, 126, 167] -/
def cl_231_3 : List mj_E := (144, false, .lmul, 1, 0, 0, 0, 0, 0) ::
  (145, false, .lload 13, 2, 0, 0, 0, 0, 0) ::
  (147, false, .invokestatic 143, 3, 200, 2, 0, 0, 0) ::
  (150, false, .aload_n 0, 1, 0, 0, 0, 0, 0) ::
  (151, false, .getfield 403, 3, 17, 57, 1, 0, 0) ::
  (154, false, .lload 13, 2, 0, 0, 0, 0, 0) ::
  (156, false, .invokestatic 143, 3, 200, 2, 0, 0, 0) ::
  (159, false, .lmul, 1, 0, 0, 0, 0, 0) ::
  (160, false, .lload 13, 2, 0, 0, 0, 0, 0) ::
  (162, false, .invokestatic 143, 3, 200, 2, 0, 0, 0) ::
  (165, false, .lstore 19, 2, 0, 0, 0, 0, 0) ::
  (167, true, .lload 15, 2, 0, 0, 0, 0, 0) ::
  (169, false, .lload 17, 2, 0, 0, 0, 0, 0) ::
  (171, false, .ladd, 1, 0, 0, 0, 0, 0) ::
  (172, false, .lload 19, 2, 0, 0, 0, 0, 0) ::
  (174, false, .ladd, 1, 0, 0, 0, 0, 0) ::
  (175, false, .lload 13, 2, 0, 0, 0, 0, 0) ::
  (177, false, .invokestatic 143, 3, 200, 2, 0, 0, 0) ::
  (180, false, .lreturn, 1, 0, 0, 0, 0, 0) ::
  []
def cl_231_2 : List mj_E := (95, false, .lload 11, 2, 0, 0, 0, 0, 0) ::
  (97, false, .lload 13, 2, 0, 0, 0, 0, 0) ::
  (99, false, .invokestatic 143, 3, 200, 2, 0, 0, 0) ::
  (102, false, .aload_n 0, 1, 0, 0, 0, 0, 0) ::
  (103, false, .getfield 406, 3, 17, 56, 1, 0, 0) ::
  (106, false, .lload 13, 2, 0, 0, 0, 0, 0) ::
  (108, false, .invokestatic 143, 3, 200, 2, 0, 0, 0) ::
  (111, false, .lmul, 1, 0, 0, 0, 0, 0) ::
  (112, false, .ladd, 1, 0, 0, 0, 0, 0) ::
  (113, false, .lload 13, 2, 0, 0, 0, 0, 0) ::
  (115, false, .invokestatic 143, 3, 200, 2, 0, 0, 0) ::
  (118, false, .lmul, 1, 0, 0, 0, 0, 0) ::
  (119, false, .lload 13, 2, 0, 0, 0, 0, 0) ::
  (121, false, .invokestatic 143, 3, 200, 2, 0, 0, 0) ::
  (124, false, .lstore 17, 2, 0, 0, 0, 0, 0) ::
  (126, true, .ldc2_w 130, 3, 0, 0, 0, 0, jL 2) ::
  (129, false, .aload_n 0, 1, 0, 0, 0, 0, 0) ::
  (130, false, .getfield 58, 3, 17, 22, 1, 0, 0) ::
  (133, false, .lmul, 1, 0, 0, 0, 0, 0) ::
  (134, false, .lload 13, 2, 0, 0, 0, 0, 0) ::
  (136, false, .lrem, 1, 0, 0, 0, 0, 0) ::
  (137, false, .lload 11, 2, 0, 0, 0, 0, 0) ::
  (139, false, .lload 13, 2, 0, 0, 0, 0, 0) ::
  (141, false, .invokestatic 143, 3, 200, 2, 0, 0, 0) ::
  cl_231_3
def cl_231_1 : List mj_E := (43, false, .invokestatic 143, 3, 200, 2, 0, 0, 0) ::
  (46, false, .lmul, 1, 0, 0, 0, 0, 0) ::
  (47, false, .lload 13, 2, 0, 0, 0, 0, 0) ::
  (49, false, .invokestatic 143, 3, 200, 2, 0, 0, 0) ::
  (52, false, .aload_n 0, 1, 0, 0, 0, 0, 0) ::
  (53, false, .getfield 406, 3, 17, 56, 1, 0, 0) ::
  (56, false, .lload 13, 2, 0, 0, 0, 0, 0) ::
  (58, false, .invokestatic 143, 3, 200, 2, 0, 0, 0) ::
  (61, false, .lmul, 1, 0, 0, 0, 0, 0) ::
  (62, false, .lload 13, 2, 0, 0, 0, 0, 0) ::
  (64, false, .invokestatic 143, 3, 200, 2, 0, 0, 0) ::
  (67, false, .lstore 15, 2, 0, 0, 0, 0, 0) ::
  (69, true, .aload_n 0, 1, 0, 0, 0, 0, 0) ::
  (70, false, .getfield 285, 3, 17, 21, 1, 0, 0) ::
  (73, false, .lload 13, 2, 0, 0, 0, 0, 0) ::
  (75, false, .invokestatic 143, 3, 200, 2, 0, 0, 0) ::
  (78, false, .lload 9, 2, 0, 0, 0, 0, 0) ::
  (80, false, .lload 13, 2, 0, 0, 0, 0, 0) ::
  (82, false, .invokestatic 143, 3, 200, 2, 0, 0, 0) ::
  (85, false, .aload_n 0, 1, 0, 0, 0, 0, 0) ::
  (86, false, .getfield 403, 3, 17, 57, 1, 0, 0) ::
  (89, false, .lload 13, 2, 0, 0, 0, 0, 0) ::
  (91, false, .invokestatic 143, 3, 200, 2, 0, 0, 0) ::
  (94, false, .lmul, 1, 0, 0, 0, 0, 0) ::
  cl_231_2
def cl_231_0 : List mj_E := (0, false, .lload_n 1, 1, 0, 0, 0, 0, 0) ::
  (1, false, .lload 5, 2, 0, 0, 0, 0, 0) ::
  (3, false, .ldiv, 1, 0, 0, 0, 0, 0) ::
  (4, false, .lstore 9, 2, 0, 0, 0, 0, 0) ::
  (6, true, .lload_n 3, 1, 0, 0, 0, 0, 0) ::
  (7, false, .lload 5, 2, 0, 0, 0, 0, 0) ::
  (9, false, .ldiv, 1, 0, 0, 0, 0, 0) ::
  (10, false, .lstore 11, 2, 0, 0, 0, 0, 0) ::
  (12, true, .aload_n 0, 1, 0, 0, 0, 0, 0) ::
  (13, false, .lload 9, 2, 0, 0, 0, 0, 0) ::
  (15, false, .lload 11, 2, 0, 0, 0, 0, 0) ::
  (17, false, .invokevirtual 409, 3, 232, 2, 17, 0, 0) ::
  (20, true, .ldc2_w 130, 3, 0, 0, 0, 0, jL 2) ::
  (23, false, .lload 7, 2, 0, 0, 0, 0, 0) ::
  (25, false, .lmul, 1, 0, 0, 0, 0, 0) ::
  (26, false, .lstore 13, 2, 0, 0, 0, 0, 0) ::
  (28, true, .ldc2_w 130, 3, 0, 0, 0, 0, jL 2) ::
  (31, false, .aload_n 0, 1, 0, 0, 0, 0, 0) ::
  (32, false, .getfield 55, 3, 17, 20, 1, 0, 0) ::
  (35, false, .lmul, 1, 0, 0, 0, 0, 0) ::
  (36, false, .lload 13, 2, 0, 0, 0, 0, 0) ::
  (38, false, .lrem, 1, 0, 0, 0, 0, 0) ::
  (39, false, .lload 9, 2, 0, 0, 0, 0, 0) ::
  (41, false, .lload 13, 2, 0, 0, 0, 0, 0) ::
  cl_231_1
def cd_231 : List mj_E := cl_231_0
def cx_231 : mj_X := (2, [], [])
theorem tb_231 : mj_tab (mj_mt 231) cx_231 cd_231 mj_mh [(0, 0, 0), (0, 0, 0), (0, 0, 0), (0, 0, 0), (0, 0, 0), (0, 0, 0), (0, 0, 0), (0, 0, 0), (0, 0, 0), (0, 0, 0), (0, 0, 0), (8076, 0, 0), (6218, 0, 0), (0, 0, 0), (0, 0, 0), (0, 0, 0), (6218, 0, 0), (0, 0, 0), (7119, 0, 0), (0, 0, 0), (0, 0, 0), (0, 0, 0), (0, 0, 0), (0, 0, 0), (7007, 0, 0), (0, 0, 0), (0, 0, 0), (7007, 0, 0), (0, 0, 0), (7155, 0, 0), (0, 0, 0), (7007, 0, 0), (0, 0, 0), (0, 0, 0), (7007, 0, 0), (0, 0, 0), (0, 0, 0), (7120, 0, 0), (0, 0, 0), (7007, 0, 0), (0, 0, 0), (0, 0, 0), (7007, 0, 0), (0, 0, 0), (7156, 0, 0), (0, 0, 0), (7007, 0, 0), (0, 0, 0), (0, 0, 0), (0, 0, 0), (7007, 0, 0), (0, 0, 0), (7155, 0, 0), (0, 0, 0), (7007, 0, 0), (0, 0, 0), (0, 0, 0), (0, 0, 0), (7007, 0, 0), (0, 0, 0), (0, 0, 0), (7007, 0, 0), (0, 0, 0), (6218, 0, 0), (0, 0, 0), (7121, 0, 0), (0, 0, 0), (0, 0, 0), (0, 0, 0), (0, 0, 0), (0, 0, 0), (7007, 0, 0), (0, 0, 0), (0, 0, 0), (7007, 0, 0), (0, 0, 0), (7156, 0, 0), (0, 0, 0), (7007, 0, 0), (0, 0, 0), (0, 0, 0), (7007, 0, 0), (0, 0, 0), (0, 0, 0), (0, 0, 0), (0, 0, 0), (0, 0, 0), (0, 0, 0), (0, 0, 0), (7007, 0, 0), (0, 0, 0)] = true := mj_tab_f (by decide +kernel)
theorem ct_231 (G : mj_G) {h : mj_H} (L : isLam h) {f : Fm} (h0 : hJ h 1412 20 = jL f.1) (h1 : hJ h 1412 21 = jL f.2.1) (h2 : hJ h 1412 22 = jL f.2.2) (hfb : (-1152921504606846976 < f.1 ∧ f.1 < 1152921504606846976) ∧ (-1152921504606846976 < f.2.1 ∧ f.2.1 < 1152921504606846976) ∧ (-1152921504606846976 < f.2.2 ∧ f.2.2 < 1152921504606846976)) {x0 y0 g m x y : Int} (hx0 : -1152921504606846976 < x0 ∧ x0 < 1152921504606846976) (hy0 : -1152921504606846976 < y0 ∧ y0 < 1152921504606846976) (hg : 0 < g ∧ g < 1152921504606846976) (hx : x0 = g * x) (hy : y0 = g * y) (hgc : Int.gcd x y = 1) (hm : 0 < m ∧ m ≤ 1000000) : mj_Ct G (mj_mt 231) 0 0 [.ref 1412, .long (jL x0), .long (jL y0), .long (jL g), .long (jL m)] h (fun o h' => (∃ q s : Int, x * s - y * q = 1 ∧ o = .returned (some (.long (jL (rootE f x y q s % (2 * m)))))) ∧ FrM noT jQs noT h h') := by
  have k := L.K 1412 rfl
  have dx : x0.tdiv g = x := by rw [hx, Int.mul_tdiv_cancel_left _ (by omega)]
  have dy : y0.tdiv g = y := by rw [hy, Int.mul_tdiv_cancel_left _ (by omega)]
  have xb : x.natAbs ≤ x0.natAbs := by
    rw [← dx]
    exact Int.natAbs_tdiv_le_natAbs _ _
  have yb : y.natAbs ≤ y0.natAbs := by
    rw [← dy]
    exact Int.natAbs_tdiv_le_natAbs _ _
  obtain ⟨t, ht⟩ : ∃ t : Int, t = 2 * m := ⟨_, rfl⟩
  have tb : 0 < t ∧ t ≤ 2000000 := by omega
  have rg : ∀ v : Int, 0 ≤ v % t ∧ v % t < t := fun v => ⟨Int.emod_nonneg _ (by omega), Int.emod_lt_of_pos _ tb.1⟩
  have rgl : ∀ v : Int, -t < v % t ∧ v % t < t := fun v => by have := rg v; omega
  have rst : ∀ {h' : mj_H} {v : Int}, -9223372036854775808 < v → v < 9223372036854775808 → mj_Ct G (mj_mt 200) 0 0 [.long (jL v), .long (jL t)] h' (jR (.long (jL (v % t))) h') := fun {h'} {v} v1 v2 => ct_200 G v1 v2 tb.1 (by omega) h'
  refine mj_Ct_of mj_ok tb_231 rfl rfl (Nat.le_of_ble_eq_true rfl) (fun Run hR => ?_)
  have main : ∀ (h' : mj_H) (q s : Int), hJ h' 1412 56 = jL q → hJ h' 1412 57 = jL s → x * s - y * q = 1 → (s.natAbs ≤ y.natAbs + 1 ∧ q.natAbs ≤ x.natAbs + 1) → FrM noT jQs noT h h' → ∀ (x15 x16 x17 x18 x19 x20 : Option Value), Run 28 (l231 x0 y0 g m (jL x) (jL y) (jL t) x15 x16 x17 x18 x19 x20) [] h' (0, 0) := by
    intro h' q s e56 e57 hdet hsb F
    have k' := (F.lay L).K 1412 rfl
    have g0 : hJ h' 1412 20 = jL f.1 := (F.2.2.2 20 (by omega)).trans h0
    have g1 : hJ h' 1412 21 = jL f.2.1 := (F.2.2.2 21 (by omega)).trans h1
    have g2 : hJ h' 1412 22 = jL f.2.2 := (F.2.2.2 22 (by omega)).trans h2
    have p1 := pr_bd tb (tm_lt (a := 2 * f.1) tb.1) (rg x)
    have p2 := pr_bd tb (rgl ((2 * f.1).tmod t * (x % t))) (rg q)
    have p3 := pr_bd tb (rgl x) (rg s)
    have p4 := pr_bd tb (rgl y) (rg q)
    have p5 := pr_bd tb (rgl f.2.1) (rg ((x % t) * (s % t) + (y % t) * (q % t)))
    have p6 := pr_bd tb (tm_lt (a := 2 * f.2.2) tb.1) (rg y)
    have p7 := pr_bd tb (rgl ((2 * f.2.2).tmod t * (y % t))) (rg s)
    have cx := rst (h' := h') (v := x) (by omega) (by omega)
    have cy' := rst (h' := h') (v := y) (by omega) (by omega)
    have cq := rst (h' := h') (v := q) (by omega) (by omega)
    have cs := rst (h' := h') (v := s) (by omega) (by omega)
    have cf := rst (h' := h') (v := f.2.1) (by omega) (by omega)
    rw [← e56] at cq
    rw [← e57] at cs
    rw [← g1] at cf
    have tne : ¬ jL t = 0 := by
      show ¬ jL t = jL 0
      rw [jL_eq (by omega) (by omega) (by omega) (by omega)]
      omega
    have em1 : (jL 2 * hJ h' 1412 20) % jL t = jL ((2 * f.1).tmod t) := by rw [g0, jL_mul, jL_mod (by omega) (by omega) (by omega) (by omega)]
    have em2 : (jL 2 * hJ h' 1412 22) % jL t = jL ((2 * f.2.2).tmod t) := by rw [g2, jL_mul, jL_mod (by omega) (by omega) (by omega) (by omega)]
    have r167 : ∀ (oL mL lL : Int64), oL = jL (2 * f.1 * x * q % t) → mL = jL (f.2.1 * (x * s + y * q) % t) → lL = jL (2 * f.2.2 * y * s % t) → Run 167 (l231 x0 y0 g m (jL x) (jL y) (jL t) (some (.long oL)) none (some (.long mL)) none (some (.long lL)) none) [] h' (0, 0) := by
      rintro oL mL lL rfl rfl rfl
      have b1 := rg (2 * f.1 * x * q)
      have b2 := rg (f.2.1 * (x * s + y * q))
      have b3 := rg (2 * f.2.2 * y * s)
      have c := rst (h' := h') (v := 2 * f.1 * x * q % t + f.2.1 * (x * s + y * q) % t + 2 * f.2.2 * y * s % t) (by omega) (by omega)
      rw [← jL_add, ← jL_add] at c
      refine hR 60 83 _ _ _ _ _ _ rfl ?_
      refine jcall c ?_
      refine ⟨⟨q, s, hdet, ?_⟩, F⟩
      rw [← ht]
      congr 4
      unfold rootE
      rw [Int.add_emod (2 * f.1 * x * q % t + f.2.1 * (x * s + y * q) % t), Int.emod_emod, ← Int.add_emod (2 * f.1 * x * q), ← Int.add_emod]
    have r126 : ∀ (oL mL : Int64) (x19 x20 : Option Value), oL = jL (2 * f.1 * x * q % t) → mL = jL (f.2.1 * (x * s + y * q) % t) → Run 126 (l231 x0 y0 g m (jL x) (jL y) (jL t) (some (.long oL)) none (some (.long mL)) none x19 x20) [] h' (0, 0) := by
      intro oL mL x19 x20 e1 e2
      have c1 := rst (h' := h') (v := (2 * f.2.2).tmod t * (y % t)) (by omega) (by omega)
      rw [← jL_mul, ← em2] at c1
      have c2 := rst (h' := h') (v := (2 * f.2.2).tmod t * (y % t) % t * (s % t)) (by omega) (by omega)
      rw [← jL_mul] at c2
      refine hR 60 63 _ _ _ _ _ _ rfl ?_
      refine ⟨k', tne, jcall cy' (jcall c1 ⟨k', jcall cs (jcall c2 ?_)⟩)⟩
      exact r167 _ _ _ e1 e2 (by rw [emod_mul3])
    have r69 : ∀ (oL : Int64) (x17 x18 x19 x20 : Option Value), oL = jL (2 * f.1 * x * q % t) → Run 69 (l231 x0 y0 g m (jL x) (jL y) (jL t) (some (.long oL)) none x17 x18 x19 x20) [] h' (0, 0) := by
      intro oL x17 x18 x19 x20 e1
      have c1 := rst (h' := h') (v := (x % t) * (s % t) + (y % t) * (q % t)) (by omega) (by omega)
      rw [← jL_add, ← jL_mul, ← jL_mul] at c1
      have c2 := rst (h' := h') (v := (f.2.1 % t) * (((x % t) * (s % t) + (y % t) * (q % t)) % t)) (by omega) (by omega)
      rw [← jL_mul] at c2
      refine hR 60 36 _ _ _ _ _ _ rfl ?_
      refine ⟨k', jcall cf (jcall cx ⟨k', jcall cs (jcall cy' ⟨k', jcall cq (jcall c1 (jcall c2 ?_))⟩)⟩)⟩
      exact r126 _ _ _ _ e1 (by rw [emod_mid])
    intro x15 x16 x17 x18 x19 x20
    have c1 := rst (h' := h') (v := (2 * f.1).tmod t * (x % t)) (by omega) (by omega)
    rw [← jL_mul, ← em1] at c1
    have c2 := rst (h' := h') (v := (2 * f.1).tmod t * (x % t) % t * (q % t)) (by omega) (by omega)
    rw [← jL_mul] at c2
    refine hR 60 16 _ _ _ _ _ _ rfl ?_
    refine ⟨k', tne, jcall cx (jcall c1 ⟨k', jcall cq (jcall c2 ?_)⟩)⟩
    exact r69 _ _ _ _ _ (by rw [emod_mul3])
  have r20 : ∀ (h' : mj_H) (q s : Int), hJ h' 1412 56 = jL q → hJ h' 1412 57 = jL s → x * s - y * q = 1 → (s.natAbs ≤ y.natAbs + 1 ∧ q.natAbs ≤ x.natAbs + 1) → FrM noT jQs noT h h' → ∀ (x13 x14 x15 x16 x17 x18 x19 x20 : Option Value), Run 20 [some (.ref 1412), some (.long (jL x0)), none, some (.long (jL y0)), none, some (.long (jL g)), none, some (.long (jL m)), none, some (.long (jL x)), none, some (.long (jL y)), none, x13, x14, x15, x16, x17, x18, x19, x20] [] h' (0, 0) := by
    intro h' q s e1 e2 e3 e4 F x13 x14 x15 x16 x17 x18 x19 x20
    have r := main h' q s e1 e2 e3 e4 F x15 x16 x17 x18 x19 x20
    rw [ht, ← jL_mul] at r
    refine hR 60 12 _ _ _ _ _ _ rfl ?_
    exact r
  have r12 : ∀ (x13 x14 x15 x16 x17 x18 x19 x20 : Option Value), Run 12 [some (.ref 1412), some (.long (jL x0)), none, some (.long (jL y0)), none, some (.long (jL g)), none, some (.long (jL m)), none, some (.long (jL x)), none, some (.long (jL y)), none, x13, x14, x15, x16, x17, x18, x19, x20] [] h (0, 0) := by
    intro x13 x14 x15 x16 x17 x18 x19 x20
    refine hR 60 8 _ _ _ _ _ _ rfl ?_
    refine ⟨k, jcallP (ct_232 G L (x := x) (y := y) (by omega) (by omega) hgc) ?_⟩
    rintro o h3 ⟨rfl, ⟨q, s, e1, e2, e3, e4, e5⟩, F3⟩
    exact r20 h3 q s e1 e2 e3 ⟨e4, e5⟩ F3 _ _ _ _ _ _ _ _
  have gne : ¬ jL g = 0 := by
    show ¬ jL g = jL 0
    rw [jL_eq (by omega) (by omega) (by omega) (by omega)]
    omega
  have r6 : ∀ (x11 x12 x13 x14 x15 x16 x17 x18 x19 x20 : Option Value), Run 6 [some (.ref 1412), some (.long (jL x0)), none, some (.long (jL y0)), none, some (.long (jL g)), none, some (.long (jL m)), none, some (.long (jL x)), none, x11, x12, x13, x14, x15, x16, x17, x18, x19, x20] [] h (0, 0) := by
    intro x11 x12 x13 x14 x15 x16 x17 x18 x19 x20
    have e : jL y0 / jL g = jL y := by rw [jL_div (by omega) (by omega) (by omega) (by omega), dy]
    have r := r12 x13 x14 x15 x16 x17 x18 x19 x20
    rw [← e] at r
    refine hR 60 4 _ _ _ _ _ _ rfl ?_
    exact ⟨gne, r⟩
  have e : jL x0 / jL g = jL x := by rw [jL_div (by omega) (by omega) (by omega) (by omega), dx]
  rw [← e] at r6
  refine hR 60 0 _ _ _ _ _ _ rfl ?_
  exact ⟨gne, r6 _ _ _ _ _ _ _ _ _ _⟩
