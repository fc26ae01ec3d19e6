/-! the model: a form of the class whose first number has nothing in common with n -/
theorem ab_mul {a k : Int} {A K : Nat} (h1 : a.natAbs ≤ A) (h2 : k.natAbs ≤ K) : (a * k).natAbs ≤ A * K := by
  rw [Int.natAbs_mul]
  exact Nat.mul_le_mul h1 h2
theorem ab2 {p q : Int} {X Y : Nat} (h1 : p.natAbs ≤ X) (h2 : q.natAbs ≤ Y) : (p + q).natAbs ≤ X + Y := by omega
theorem ab3 {p q r : Int} {X Y Z : Nat} (h1 : p.natAbs ≤ X) (h2 : q.natAbs ≤ Y) (h3 : r.natAbs ≤ Z) : (p + q + r).natAbs ≤ X + Y + Z := by omega
/-- the forms that are tried -/
def frG (f g : Fm) : Prop := g = f ∨ ∃ y k : Int, (0 ≤ y ∧ y ≤ 7) ∧ (-y ≤ k ∧ k ≤ y) ∧ (g = toF (slF k f) ∨ g = toF (slF y (toF (slF k f))))
theorem frG_bd {f g : Fm} (h : frG f g) {A C : Nat} (h1 : f.1.natAbs ≤ A) (h2 : f.2.1.natAbs ≤ A) (h3 : f.2.2.natAbs ≤ C) : g.1.natAbs ≤ 2850 * A + 49 * C ∧ g.2.1.natAbs ≤ 799 * A + 14 * C := by
  rcases h with rfl | ⟨y, k, ⟨y0, y1⟩, ⟨k0, k1⟩, rfl | rfl⟩
  · omega
  · have e1 := ab_mul (ab_mul h1 (show k.natAbs ≤ 7 by omega)) (show k.natAbs ≤ 7 by omega)
    have e2 := ab_mul h2 (show k.natAbs ≤ 7 by omega)
    have e3 := ab_mul (ab_mul (show (2 : Int).natAbs ≤ 2 by decide) h1) (show k.natAbs ≤ 7 by omega)
    refine ⟨Nat.le_trans (ab3 e1 e2 h3) (by omega), ?_⟩
    show (-(f.2.1 + 2 * f.1 * k)).natAbs ≤ _
    rw [Int.natAbs_neg]
    exact Nat.le_trans (ab2 h2 e3) (by omega)
  · have e : slF y (toF (slF k f)) = (f.1 * k * k + f.2.1 * k + f.2.2, -(f.2.1 + 2 * f.1 * k) + 2 * (f.1 * k * k + f.2.1 * k + f.2.2) * y, f.1 * (k * y - 1) * (k * y - 1) + f.2.1 * (k * y - 1) * y + f.2.2 * y * y) := by
      unfold slF toF
      refine Prod.ext rfl (Prod.ext rfl ?_)
      show (f.1 * k * k + f.2.1 * k + f.2.2) * y * y + -(f.2.1 + 2 * f.1 * k) * y + f.1 = f.1 * (k * y - 1) * (k * y - 1) + f.2.1 * (k * y - 1) * y + f.2.2 * y * y
      grind
    rw [e]
    have ky := ab_mul (show k.natAbs ≤ 7 by omega) (show y.natAbs ≤ 7 by omega)
    have ky1 : (k * y - 1).natAbs ≤ 50 := by
      generalize k * y = t at ky ⊢
      omega
    have e1 := ab_mul (ab_mul h1 ky1) ky1
    have e2 := ab_mul (ab_mul h2 ky1) (show y.natAbs ≤ 7 by omega)
    have e3 := ab_mul (ab_mul h3 (show y.natAbs ≤ 7 by omega)) (show y.natAbs ≤ 7 by omega)
    have e4 := ab_mul (ab_mul h1 (show k.natAbs ≤ 7 by omega)) (show k.natAbs ≤ 7 by omega)
    have e5 := ab_mul h2 (show k.natAbs ≤ 7 by omega)
    have e6 := ab_mul (ab_mul (show (2 : Int).natAbs ≤ 2 by decide) h1) (show k.natAbs ≤ 7 by omega)
    have e7 : (f.1 * k * k + f.2.1 * k + f.2.2).natAbs ≤ 56 * A + C := Nat.le_trans (ab3 e4 e5 h3) (by omega)
    have e8 := ab_mul (ab_mul (show (2 : Int).natAbs ≤ 2 by decide) e7) (show y.natAbs ≤ 7 by omega)
    refine ⟨Nat.le_trans (ab3 e1 e2 e3) (by omega), ?_⟩
    show (-(-(f.2.1 + 2 * f.1 * k) + 2 * (f.1 * k * k + f.2.1 * k + f.2.2) * y)).natAbs ≤ _
    have e9 : (-(f.2.1 + 2 * f.1 * k)).natAbs ≤ 15 * A := by
      rw [Int.natAbs_neg]
      exact Nat.le_trans (ab2 h2 e6) (by omega)
    rw [Int.natAbs_neg]
    exact Nat.le_trans (ab2 e9 e8) (by omega)
abbrev l206 (n p q r y : Int64) (x11 x12 : Option Value) : mj_Ls := [some (.ref 1412), some (.long n), none, some (.long p), none, some (.long q), none, some (.long r), none, some (.long y), none, x11, x12]
/-- FormHouseModel.freeOf(J)V; cuts at [11, 20, 38, 59, 76, 82, 86, 102, 108, 112, 121] -/
def cl_206_2 : List mj_E := (90, false, .lload_n 1, 1, 0, 0, 0, 0, 0) ::
  (91, false, .invokestatic 166, 3, 197, 2, 0, 0, 0) ::
  (94, false, .lconst 1, 1, 0, 0, 0, 0, jL 1) ::
  (95, false, .lcmp, 1, 0, 0, 0, 0, 0) ::
  (96, false, .ifCond .ne 6, 3, 54, 0, 0, 0, 0) ::
  (99, false, .goto 13, 3, 59, 0, 0, 0, 0) ::
  (102, true, .aload_n 0, 1, 0, 0, 0, 0, 0) ::
  (103, false, .lload 9, 2, 0, 0, 0, 0, 0) ::
  (105, false, .invokevirtual 179, 3, 207, 1, 17, 0, 0) ::
  (108, true, .aload_n 0, 1, 0, 0, 0, 0, 0) ::
  (109, false, .invokevirtual 182, 3, 208, 0, 17, 0, 0) ::
  (112, true, .lload 11, 2, 0, 0, 0, 0, 0) ::
  (114, false, .lconst 1, 1, 0, 0, 0, 0, jL 1) ::
  (115, false, .ladd, 1, 0, 0, 0, 0, 0) ::
  (116, false, .lstore 11, 2, 0, 0, 0, 0, 0) ::
  (118, false, .goto (-80), 3, 21, 0, 0, 0, 0) ::
  (121, true, .lload 9, 2, 0, 0, 0, 0, 0) ::
  (123, false, .lconst 1, 1, 0, 0, 0, 0, jL 1) ::
  (124, false, .ladd, 1, 0, 0, 0, 0, 0) ::
  (125, false, .lstore 9, 2, 0, 0, 0, 0, 0) ::
  (127, false, .goto (-107), 3, 11, 0, 0, 0, 0) ::
  (130, false, .return_, 1, 0, 0, 0, 0, 0) ::
  []
def cl_206_1 : List mj_E := (43, false, .ifCond .gt 78, 3, 64, 0, 0, 0, 0) ::
  (46, false, .aload_n 0, 1, 0, 0, 0, 0, 0) ::
  (47, false, .getfield 132, 3, 17, 50, 1, 0, 0) ::
  (50, false, .lload_n 1, 1, 0, 0, 0, 0, 0) ::
  (51, false, .invokestatic 166, 3, 197, 2, 0, 0, 0) ::
  (54, false, .lconst 1, 1, 0, 0, 0, 0, jL 1) ::
  (55, false, .lcmp, 1, 0, 0, 0, 0, 0) ::
  (56, false, .ifCond .eq 65, 3, 64, 0, 0, 0, 0) ::
  (59, true, .aload_n 0, 1, 0, 0, 0, 0, 0) ::
  (60, false, .lload_n 3, 1, 0, 0, 0, 0, 0) ::
  (61, false, .putfield 132, 3, 17, 50, 1, 0, 0) ::
  (64, false, .aload_n 0, 1, 0, 0, 0, 0, 0) ::
  (65, false, .lload 5, 2, 0, 0, 0, 0, 0) ::
  (67, false, .putfield 135, 3, 17, 51, 1, 0, 0) ::
  (70, false, .aload_n 0, 1, 0, 0, 0, 0, 0) ::
  (71, false, .lload 7, 2, 0, 0, 0, 0, 0) ::
  (73, false, .putfield 140, 3, 17, 52, 1, 0, 0) ::
  (76, true, .aload_n 0, 1, 0, 0, 0, 0, 0) ::
  (77, false, .lload 11, 2, 0, 0, 0, 0, 0) ::
  (79, false, .invokevirtual 179, 3, 207, 1, 17, 0, 0) ::
  (82, true, .aload_n 0, 1, 0, 0, 0, 0, 0) ::
  (83, false, .invokevirtual 182, 3, 208, 0, 17, 0, 0) ::
  (86, true, .aload_n 0, 1, 0, 0, 0, 0, 0) ::
  (87, false, .getfield 132, 3, 17, 50, 1, 0, 0) ::
  cl_206_2
def cl_206_0 : List mj_E := (0, false, .aload_n 0, 1, 0, 0, 0, 0, 0) ::
  (1, false, .getfield 132, 3, 17, 50, 1, 0, 0) ::
  (4, false, .lstore_n 3, 1, 0, 0, 0, 0, 0) ::
  (5, false, .aload_n 0, 1, 0, 0, 0, 0, 0) ::
  (6, false, .getfield 135, 3, 17, 51, 1, 0, 0) ::
  (9, false, .lstore 5, 2, 0, 0, 0, 0, 0) ::
  (11, true, .aload_n 0, 1, 0, 0, 0, 0, 0) ::
  (12, false, .getfield 140, 3, 17, 52, 1, 0, 0) ::
  (15, false, .lstore 7, 2, 0, 0, 0, 0, 0) ::
  (17, false, .lconst 0, 1, 0, 0, 0, 0, jL 0) ::
  (18, false, .lstore 9, 2, 0, 0, 0, 0, 0) ::
  (20, true, .aload_n 0, 1, 0, 0, 0, 0, 0) ::
  (21, false, .getfield 132, 3, 17, 50, 1, 0, 0) ::
  (24, false, .lload_n 1, 1, 0, 0, 0, 0, 0) ::
  (25, false, .invokestatic 166, 3, 197, 2, 0, 0, 0) ::
  (28, false, .lconst 1, 1, 0, 0, 0, 0, jL 1) ::
  (29, false, .lcmp, 1, 0, 0, 0, 0, 0) ::
  (30, false, .ifCond .eq 100, 3, 69, 0, 0, 0, 0) ::
  (33, false, .lload 9, 2, 0, 0, 0, 0, 0) ::
  (35, false, .lneg, 1, 0, 0, 0, 0, 0) ::
  (36, false, .lstore 11, 2, 0, 0, 0, 0, 0) ::
  (38, true, .lload 11, 2, 0, 0, 0, 0, 0) ::
  (40, false, .lload 9, 2, 0, 0, 0, 0, 0) ::
  (42, false, .lcmp, 1, 0, 0, 0, 0, 0) ::
  cl_206_1
def cd_206 : List mj_E := cl_206_0
def cx_206 : mj_X := (0, [], [])
theorem tb_206 : mj_tab (mj_mt 206) cx_206 cd_206 mj_mh [(0, 0, 0), (7149, 0, 0), (0, 0, 0), (0, 0, 0), (7150, 0, 0), (0, 0, 0), (0, 0, 0), (7151, 0, 0), (0, 0, 0), (0, 0, 0), (0, 0, 0), (0, 0, 0), (7149, 0, 0), (0, 0, 0), (6236, 0, 0), (0, 0, 0), (0, 0, 0), (0, 0, 0), (0, 0, 0), (0, 0, 0), (0, 0, 0), (0, 0, 0), (0, 0, 0), (0, 0, 0), (0, 0, 0), (0, 0, 0), (7149, 0, 0), (0, 0, 0), (6236, 0, 0), (0, 0, 0), (0, 0, 0), (0, 0, 0), (0, 0, 0), (0, 0, 0), (7149, 0, 0), (0, 0, 0), (0, 0, 0), (7150, 0, 0), (0, 0, 0), (0, 0, 0), (7151, 0, 0), (0, 0, 0), (0, 0, 0), (7034, 0, 0), (0, 0, 0), (7038, 0, 0), (0, 0, 0), (7149, 0, 0), (0, 0, 0), (6236, 0, 0), (0, 0, 0), (0, 0, 0), (0, 0, 0), (0, 0, 0), (0, 0, 0), (0, 0, 0), (7034, 0, 0), (0, 0, 0), (7038, 0, 0), (0, 0, 0), (0, 0, 0), (0, 0, 0), (0, 0, 0), (0, 0, 0), (0, 0, 0), (0, 0, 0), (0, 0, 0), (0, 0, 0), (0, 0, 0), (0, 0, 0)] = true := mj_tab_f (by decide +kernel)
theorem ct_206 (G : mj_G) {h : mj_H} (L : isLam h) {f : Fm} (hf : isMm h f) (hfb : f.1.natAbs ≤ 1048576 ∧ f.2.1.natAbs ≤ 1048576 ∧ f.2.2.natAbs ≤ 1048576) {n : Int} (hn : -1099511627776 < n ∧ n < 1099511627776) {y0 k0 : Int} (hy0 : 0 ≤ y0 ∧ y0 ≤ 7) (hk0 : -y0 ≤ k0 ∧ k0 ≤ y0) (hex : Int.gcd (toF (slF k0 f)).1 n = 1 ∨ Int.gcd (toF (slF y0 (toF (slF k0 f)))).1 n = 1) : mj_Ct G (mj_mt 206) 0 0 [.ref 1412, .long (jL n)] h (fun o h' => o = .returned none ∧ (∃ g, isMm h' g ∧ frG f g ∧ Int.gcd g.1 n = 1) ∧ FrM noT jF noT h h') := by
  have gb : ∀ g, frG f g → -9223372036854775808 < g.1 ∧ g.1 < 9223372036854775808 := by
    intro g hg
    have := (frG_bd hg hfb.1 hfb.2.1 hfb.2.2).1
    omega
  have gle : ∀ g, frG f g → (Int.gcd g.1 n : Int) < 9223372036854775808 := by
    intro g hg
    by_cases z : n = 0
    · subst z
      rw [Int.gcd_zero_right]
      have := gb g hg
      omega
    · have := Int.gcd_le_natAbs_right g.1 (b := n) z
      omega
  refine mj_Ct_of mj_ok tb_206 rfl rfl (Nat.le_of_ble_eq_true rfl) (fun Run hR => ?_)
  have main : ∀ (m : Nat) (y : Int) (h' : mj_H) (g : Fm) (yL : Int64) (x11 x12 : Option Value), 0 ≤ y → y + m = y0 + 1 → (y ≤ y0 ∨ Int.gcd g.1 n = 1) → frG f g → isMm h' g → FrM noT jF noT h h' → yL = jL y → Run 20 (l206 (jL n) (jL f.1) (jL f.2.1) (jL f.2.2) yL x11 x12) [] h' (0, 0) := by
    have exit : ∀ (h' : mj_H) (g : Fm) (yL : Int64) (x11 x12 : Option Value), Int.gcd g.1 n = 1 → frG f g → isMm h' g → FrM noT jF noT h h' → Run 20 (l206 (jL n) (jL f.1) (jL f.2.1) (jL f.2.2) yL x11 x12) [] h' (0, 0) := by
      intro h' g yL x11 x12 h1 hg hm F
      have hb := gb g hg
      refine hR 60 11 _ _ _ _ _ _ rfl ?_
      refine ⟨(F.lay L).K 1412 rfl, ?_⟩
      rw [hm.1]
      refine jcall (ct_197 G hb.1 hb.2 (by omega) (by omega) h') ?_
      rw [h1]
      refine ⟨fun c => ?_, fun c => ?_⟩
      · exact ⟨rfl, ⟨g, hm, hg, h1⟩, F⟩
      · exact absurd rfl c
    intro m
    induction m with
    | zero =>
      rintro y h' g yL x11 x12 hy hym hor hg hm F rfl
      exact exit h' g _ _ _ (hor.elim (fun z => absurd z (by omega)) id) hg hm F
    | succ m ih =>
      rintro y h' g yL x11 x12 hy hym hor hg hm F rfl
      by_cases h1 : Int.gcd g.1 n = 1
      · exact exit h' g _ _ _ h1 hg hm F
      have hyy : y ≤ y0 := hor.elim id (fun z => absurd z h1)
      have r121 : ∀ (h3 : mj_H) (g3 : Fm) (x11 x12 : Option Value), (y + 1 ≤ y0 ∨ Int.gcd g3.1 n = 1) → frG f g3 → isMm h3 g3 → FrM noT jF noT h h3 → Run 121 (l206 (jL n) (jL f.1) (jL f.2.1) (jL f.2.2) (jL y) x11 x12) [] h3 (0, 0) := by
        intro h3 g3 x11 x12 ho hg3 hm3 F3
        refine hR 60 64 _ _ _ _ _ _ rfl ?_
        exact ih (y + 1) h3 g3 _ _ _ (by omega) (by omega) ho hg3 hm3 F3 (by rw [jL_add])
      have r38 : ∀ (j : Nat) (k : Int) (h3 : mj_H) (g3 : Fm) (kL : Int64), k + j = y + 1 → -y ≤ k → (y = y0 ∧ k0 < k → Int.gcd g3.1 n = 1) → frG f g3 → isMm h3 g3 → FrM noT jF noT h h3 → kL = jL k → Run 38 (l206 (jL n) (jL f.1) (jL f.2.1) (jL f.2.2) (jL y) (some (.long kL)) none) [] h3 (0, 0) := by
        intro j
        induction j with
        | zero =>
          rintro k h3 g3 kL hj hk hinv hg3 hm3 F3 rfl
          refine hR 60 21 _ _ _ _ _ _ rfl ?_
          refine ⟨fun c => ?_, fun c => ?_⟩
          · refine r121 h3 g3 _ _ ?_ hg3 hm3 F3
            by_cases z : y = y0
            · exact Or.inr (hinv ⟨z, by omega⟩)
            · exact Or.inl (by omega)
          · simp only [mj_lcm] at c
            rw [jL_lt (by omega) (by omega) (by omega) (by omega)] at c
            omega
        | succ j ihj =>
          rintro k h3 g3 kL hj hk hinv hg3 hm3 F3 rfl
          have L3 := F3.lay L
          have hb3 := gb g3 hg3
          have hG1 : frG f (toF (slF k f)) := Or.inr ⟨y, k, ⟨hy, by omega⟩, ⟨hk, by omega⟩, Or.inl rfl⟩
          have hG2 : frG f (toF (slF y (toF (slF k f)))) := Or.inr ⟨y, k, ⟨hy, by omega⟩, ⟨hk, by omega⟩, Or.inr rfl⟩
          have hb1 := gb _ hG1
          have r112 : ∀ (h4 : mj_H) (g4 : Fm), (y = y0 ∧ k0 < k + 1 → Int.gcd g4.1 n = 1) → frG f g4 → isMm h4 g4 → FrM noT jF noT h h4 → Run 112 (l206 (jL n) (jL f.1) (jL f.2.1) (jL f.2.2) (jL y) (some (.long (jL k))) none) [] h4 (0, 0) := by
            intro h4 g4 hi4 hg4 hm4 F4
            refine hR 60 59 _ _ _ _ _ _ rfl ?_
            exact ihj (k + 1) h4 g4 _ (by omega) (by omega) hi4 hg4 hm4 F4 (by rw [jL_add])
          by_cases hc : Int.gcd g3.1 n = 1
          · refine hR 60 21 _ _ _ _ _ _ rfl ?_
            refine ⟨fun c => r121 h3 g3 _ _ (Or.inr hc) hg3 hm3 F3, fun c => ⟨L3.K 1412 rfl, ?_⟩⟩
            rw [hm3.1]
            refine jcall (ct_197 G hb3.1 hb3.2 (by omega) (by omega) h3) ?_
            rw [hc]
            exact ⟨fun c => r121 h3 g3 _ _ (Or.inr hc) hg3 hm3 F3, fun c => absurd rfl c⟩
          have hnot : ¬ (y = y0 ∧ k0 < k) := fun z => hc (hinv z)
          have r108 : ∀ (h4 : mj_H), Int.gcd (toF (slF k f)).1 n ≠ 1 → isMm h4 (slF y (toF (slF k f))) → FrM noT jF noT h h4 → Run 108 (l206 (jL n) (jL f.1) (jL f.2.1) (jL f.2.2) (jL y) (some (.long (jL k))) none) [] h4 (0, 0) := by
            intro h4 hne hm4 F4
            refine hR 60 57 _ _ _ _ _ _ rfl ?_
            refine ⟨(F4.lay L).K 1412 rfl, jcallP (ct_208 G (F4.lay L) hm4) ?_⟩
            rintro o h5 ⟨rfl, m5, F5⟩
            refine r112 h5 _ (fun z => ?_) hG2 m5 (F4.trans F5)
            have hkk : k = k0 := by omega
            rw [hkk] at hne
            rcases hex with e | e
            · exact absurd e hne
            · rw [z.1, hkk]
              exact e
          have r102 : ∀ (h4 : mj_H), Int.gcd (toF (slF k f)).1 n ≠ 1 → isMm h4 (toF (slF k f)) → FrM noT jF noT h h4 → Run 102 (l206 (jL n) (jL f.1) (jL f.2.1) (jL f.2.2) (jL y) (some (.long (jL k))) none) [] h4 (0, 0) := by
            intro h4 hne hm4 F4
            refine hR 60 54 _ _ _ _ _ _ rfl ?_
            refine ⟨(F4.lay L).K 1412 rfl, jcallP (ct_207 G (F4.lay L) hm4 y) ?_⟩
            rintro o h5 ⟨rfl, m5, F5⟩
            exact r108 h5 hne m5 (F4.trans F5)
          have r86 : ∀ (h4 : mj_H), isMm h4 (toF (slF k f)) → FrM noT jF noT h h4 → Run 86 (l206 (jL n) (jL f.1) (jL f.2.1) (jL f.2.2) (jL y) (some (.long (jL k))) none) [] h4 (0, 0) := by
            intro h4 hm4 F4
            have hge := gle _ hG1
            refine hR 60 46 _ _ _ _ _ _ rfl ?_
            refine ⟨(F4.lay L).K 1412 rfl, ?_⟩
            rw [hm4.1]
            refine jcall (ct_197 G hb1.1 hb1.2 (by omega) (by omega) h4) ?_
            refine ⟨fun c => ?_, fun c => ?_⟩
            · have c' : jL (Int.gcd (toF (slF k f)).1 n : Int) = jL 1 := c
              rw [jL_eq (by omega) (by omega) (by omega) (by omega)] at c'
              exact r112 h4 _ (fun _ => by omega) hG1 hm4 F4
            · have c' : ¬ jL (Int.gcd (toF (slF k f)).1 n : Int) = jL 1 := c
              rw [jL_eq (by omega) (by omega) (by omega) (by omega)] at c'
              exact r102 h4 (by omega) hm4 F4
          have r82 : ∀ (h4 : mj_H), isMm h4 (slF k f) → FrM noT jF noT h h4 → Run 82 (l206 (jL n) (jL f.1) (jL f.2.1) (jL f.2.2) (jL y) (some (.long (jL k))) none) [] h4 (0, 0) := by
            intro h4 hm4 F4
            refine hR 60 44 _ _ _ _ _ _ rfl ?_
            refine ⟨(F4.lay L).K 1412 rfl, jcallP (ct_208 G (F4.lay L) hm4) ?_⟩
            rintro o h5 ⟨rfl, m5, F5⟩
            exact r86 h5 m5 (F4.trans F5)
          have r76 : ∀ (h4 : mj_H), isMm h4 f → FrM noT jF noT h h4 → Run 76 (l206 (jL n) (jL f.1) (jL f.2.1) (jL f.2.2) (jL y) (some (.long (jL k))) none) [] h4 (0, 0) := by
            intro h4 hm4 F4
            refine hR 60 41 _ _ _ _ _ _ rfl ?_
            refine ⟨(F4.lay L).K 1412 rfl, jcallP (ct_207 G (F4.lay L) hm4 k) ?_⟩
            rintro o h5 ⟨rfl, m5, F5⟩
            exact r82 h5 m5 (F4.trans F5)
          have r59 : Run 59 (l206 (jL n) (jL f.1) (jL f.2.1) (jL f.2.2) (jL y) (some (.long (jL k))) none) [] h3 (0, 0) := by
            refine hR 60 32 _ _ _ _ _ _ rfl ?_
            refine ⟨L3.K 1412 rfl, L3.K 1412 rfl, L3.K 1412 rfl, ?_⟩
            exact r76 _ ⟨rfl, rfl, rfl⟩ (((F3.fJ (by omega) _).fJ (by omega) _).fJ (by omega) _)
          have hge := gle _ hg3
          refine hR 60 21 _ _ _ _ _ _ rfl ?_
          refine ⟨fun c => ?_, fun c => ⟨L3.K 1412 rfl, ?_⟩⟩
          · simp only [mj_lcm] at c
            rw [jL_lt (by omega) (by omega) (by omega) (by omega)] at c
            omega
          · rw [hm3.1]
            refine jcall (ct_197 G hb3.1 hb3.2 (by omega) (by omega) h3) ?_
            refine ⟨fun c2 => ?_, fun c2 => ?_⟩
            · have c' : jL (Int.gcd g3.1 n : Int) = jL 1 := c2
              rw [jL_eq (by omega) (by omega) (by omega) (by omega)] at c'
              exact absurd (by omega) hc
            · exact r59
      have L' := F.lay L
      have hb := gb g hg
      have hge := gle g hg
      refine hR 60 11 _ _ _ _ _ _ rfl ?_
      refine ⟨L'.K 1412 rfl, ?_⟩
      rw [hm.1]
      refine jcall (ct_197 G hb.1 hb.2 (by omega) (by omega) h') ?_
      refine ⟨fun c => ?_, fun c => ?_⟩
      · have c' : jL (Int.gcd g.1 n : Int) = jL 1 := c
        rw [jL_eq (by omega) (by omega) (by omega) (by omega)] at c'
        exact absurd (by omega) h1
      · exact r38 (2 * y + 1).toNat (-y) h' g _ (by omega) (by omega) (fun z => absurd z.2 (by omega)) hg hm F (by rw [jL_neg])
  have r11 : ∀ (x7 x8 x9 x10 x11 x12 : Option Value), Run 11 [some (.ref 1412), some (.long (jL n)), none, some (.long (jL f.1)), none, some (.long (jL f.2.1)), none, x7, x8, x9, x10, x11, x12] [] h (0, 0) := by
    intro x7 x8 x9 x10 x11 x12
    refine hR 60 6 _ _ _ _ _ _ rfl ?_
    refine ⟨L.K 1412 rfl, ?_⟩
    rw [hf.2.2]
    exact main (y0 + 1).toNat 0 h f _ _ _ (by decide) (by omega) (Or.inl hy0.1) (Or.inl rfl) hf (FrM.refl _ _ _ h) rfl
  refine hR 60 0 _ _ _ _ _ _ rfl ?_
  refine ⟨L.K 1412 rfl, ?_⟩
  rw [hf.1]
  refine ⟨L.K 1412 rfl, ?_⟩
  rw [hf.2.1]
  exact r11 _ _ _ _ _ _
