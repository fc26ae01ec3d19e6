/-! the model: the best solution of a family -/
theorem dg_ex {g : Nat → Int} : ∀ n, (∀ k, k < n → 0 ≤ g k ∧ g k < 65536) → ∃ U, 0 ≤ U ∧ U < pB n ∧ ∀ k, k < n → dgt U k = g k
  | 0, _ => ⟨0, Int.le_refl _, by rw [pB_0]; decide, fun k hk => by omega⟩
  | n + 1, hg => by
    obtain ⟨U, u0, u1, u2⟩ := dg_ex n (fun k hk => hg k (by omega))
    have hp := pB_pos n
    obtain ⟨g0, g1⟩ := hg n (by omega)
    have hm : pB n * g n ≤ pB n * 65535 := Int.mul_le_mul_of_nonneg_left (by omega) (Int.le_of_lt hp)
    have hm0 : 0 ≤ pB n * g n := Int.mul_nonneg (Int.le_of_lt hp) g0
    refine ⟨U + pB n * g n, by omega, ?_, fun k hk => ?_⟩
    · rw [pB_s]
      omega
    · by_cases z : k = n
      · rw [z]
        unfold dgt
        rw [Int.add_mul_ediv_left _ _ (by omega), Int.ediv_eq_zero_of_lt u0 u1, Int.zero_add]
        exact Int.emod_eq_of_lt g0 g1
      · rw [← u2 k (by omega)]
        have e : pB n = pB k * (65536 * pB (n - k - 1)) := by
          have h1 : pB n = pB (k + 1 + (n - k - 1)) := by
            congr 1
            omega
          rw [h1, pB_add, pB_s, Int.mul_assoc]
        unfold dgt
        rw [e, Int.mul_assoc, Int.mul_assoc, Int.add_mul_ediv_left _ _ (by have := pB_pos k; omega), Int.add_mul_emod_self_left]
theorem row_ex {h : mj_H} (ho : isOK h) {i n : Nat} (hi : i < 5) (hn : 0 < n) (hn2 : n ≤ 2200) : ∃ v, isD h i n v ∧ rgD n v := by
  have hg : ∀ k, k < n → 0 ≤ (hI h 1440 (2200 * i + k)).toInt ∧ (hI h 1440 (2200 * i + k)).toInt < 65536 ∧ hI h 1440 (2200 * i + k) = jI (hI h 1440 (2200 * i + k)).toInt := by
    intro k hk
    obtain ⟨d, d0, d1, e⟩ := ho (2200 * i + k) (by omega)
    have e2 : (hI h 1440 (2200 * i + k)).toInt = d := by rw [e, jI_to (by omega) (by omega)]
    rw [e2]
    exact ⟨d0, d1, e⟩
  obtain ⟨U, u0, u1, u2⟩ := dg_ex (g := fun k => (hI h 1440 (2200 * i + k)).toInt) n (fun k hk => ⟨(hg k hk).1, (hg k hk).2.1⟩)
  have hp := pB_pos (n - 1)
  have e : pB n = pB (n - 1) * 65536 := by
    have := pB_s (n - 1)
    rwa [show n - 1 + 1 = n by omega] at this
  by_cases z : U < 32768 * pB (n - 1)
  · refine ⟨U, fun k hk => ?_, by omega, z⟩
    rw [u2 k hk]
    exact (hg k hk).2.2
  · refine ⟨U - pB n, fun k hk => ?_, by omega, by omega⟩
    have e2 : pB n = pB k * (65536 * pB (n - k - 1)) := by
      have h1 : pB n = pB (k + 1 + (n - k - 1)) := by
        congr 1
        omega
      rw [h1, pB_add, pB_s, Int.mul_assoc]
    have e3 : dgt (U - pB n) k = dgt U k := by
      unfold dgt
      rw [show U - pB n = U + pB k * (65536 * -(pB (n - k - 1))) by rw [e2, Int.mul_neg, Int.mul_neg]; omega, Int.add_mul_ediv_left _ _ (by have := pB_pos k; omega), Int.add_mul_emod_self_left]
    rw [e3, u2 k hk]
    exact (hg k hk).2.2
theorem rows_ex {h : mj_H} (ho : isOK h) {n : Nat} (hn : isDg h n) : ∃ (z : zI) (u v : Int), isZ h n z u v := by
  obtain ⟨n1, n2, n3⟩ := id hn
  obtain ⟨a, a1, a2⟩ := row_ex ho (i := 0) (by omega) (show 0 < n by omega) n3
  obtain ⟨b, b1, b2⟩ := row_ex ho (i := 1) (by omega) (show 0 < n by omega) n3
  obtain ⟨c, c1, c2⟩ := row_ex ho (i := 2) (by omega) (show 0 < n by omega) n3
  obtain ⟨d, d1, d2⟩ := row_ex ho (i := 3) (by omega) (show 0 < n by omega) n3
  refine ⟨(a, b), c, d, hn, ho, fun i hi => ?_⟩
  rcases (show i = 0 ∨ i = 1 ∨ i = 2 ∨ i = 3 by omega) with e | e | e | e <;> subst e
  · exact ⟨a1, a2⟩
  · exact ⟨b1, b2⟩
  · exact ⟨c1, c2⟩
  · exact ⟨d1, d2⟩
/-- a solution is better than another one -/
def btZ (z w : zI) : Prop := z.2.natAbs < w.2.natAbs ∨ (z.2.natAbs = w.2.natAbs ∧ (z.1.natAbs < w.1.natAbs ∨ (z.1.natAbs = w.1.natAbs ∧ w.1 < 0 ∧ ¬ z.1 < 0)))
def j0R (r p : Nat) : Int := if r < 2 * p then -1 else 0
/-- where the search stops: u steps on, or none and v steps back -/
def skP (Z : Int → zI) (j0 : Int) (u v : Nat) : Prop := (∀ i : Nat, i < u → btZ (Z (j0 + i + 1)) (Z (j0 + i))) ∧ ¬ btZ (Z (j0 + u + 1)) (Z (j0 + u)) ∧ (u = 0 → (∀ i : Nat, i < v → btZ (Z (j0 - i - 1)) (Z (j0 - i))) ∧ ¬ btZ (Z (j0 - v - 1)) (Z (j0 - v))) ∧ (0 < u → v = 0)
theorem stR.up {n m : Nat} {v : Int} (a : stR n v) (h : n ≤ m) : stR m v := by
  have := pB_mono (show n - 1 ≤ m - 1 by omega)
  obtain ⟨a1, a2⟩ := a
  constructor <;> omega
abbrev l245 (z : zI) (p j : Int) (way s k more : Int32) : mj_Ls := [some (.ref 1412), some (.long (jL z.1)), none, some (.long (jL z.2)), none, some (.int (jI p)), some (.int (jI j)), some (.int way), some (.int s), some (.int k), some (.int more)]
/-- FormHouseModel.seekBest(JJI)V; cuts at [6, 22, 24, 34, 38, 44, 50, 54, 70, 72, 77, 84, 94, 100, 105, 109, 116] -/
def cl_245_2 : List mj_E := (87, false, .iload 5, 2, 0, 0, 0, 0, 0) ::
  (89, false, .iload 9, 2, 0, 0, 0, 0, 0) ::
  (91, false, .invokevirtual 360, 3, 246, 4, 17, 0, 0) ::
  (94, true, .aload_n 0, 1, 0, 0, 0, 0, 0) ::
  (95, false, .invokevirtual 367, 3, 254, 0, 17, 0, 0) ::
  (98, false, .istore 10, 2, 0, 0, 0, 0, 0) ::
  (100, true, .iload 10, 2, 0, 0, 0, 0, 0) ::
  (102, false, .ifCond .eq (-30), 3, 39, 0, 0, 0, 0) ::
  (105, true, .aload_n 0, 1, 0, 0, 0, 0, 0) ::
  (106, false, .invokevirtual 364, 3, 253, 0, 17, 0, 0) ::
  (109, true, .iload 8, 2, 0, 0, 0, 0, 0) ::
  (111, false, .istore 7, 2, 0, 0, 0, 0, 0) ::
  (113, false, .goto (-41), 3, 39, 0, 0, 0, 0) ::
  (116, true, .iinc 8 (-2), 3, 0, 0, 0, jI (-2), 0) ::
  (119, false, .goto (-75), 3, 25, 0, 0, 0, 0) ::
  (122, false, .return_, 1, 0, 0, 0, 0, 0) ::
  []
def cl_245_1 : List mj_E := (42, false, .istore 8, 2, 0, 0, 0, 0, 0) ::
  (44, true, .iload 8, 2, 0, 0, 0, 0, 0) ::
  (46, false, .iconst (-1), 1, 0, 0, 0, jI (-1), 0) ::
  (47, false, .if_icmp .lt 75, 3, 63, 0, 0, 0, 0) ::
  (50, true, .iload 6, 2, 0, 0, 0, 0, 0) ::
  (52, false, .istore 9, 2, 0, 0, 0, 0, 0) ::
  (54, true, .iload 7, 2, 0, 0, 0, 0, 0) ::
  (56, false, .ifCond .eq 9, 3, 35, 0, 0, 0, 0) ::
  (59, false, .iload 8, 2, 0, 0, 0, 0, 0) ::
  (61, false, .iconst 1, 1, 0, 0, 0, jI 1, 0) ::
  (62, false, .if_icmp .ne 7, 3, 37, 0, 0, 0, 0) ::
  (65, false, .iconst 1, 1, 0, 0, 0, jI 1, 0) ::
  (66, false, .goto 4, 3, 38, 0, 0, 0, 0) ::
  (69, false, .iconst 0, 1, 0, 0, 0, jI 0, 0) ::
  (70, true, .istore 10, 2, 0, 0, 0, 0, 0) ::
  (72, true, .iload 10, 2, 0, 0, 0, 0, 0) ::
  (74, false, .ifCond .eq 42, 3, 61, 0, 0, 0, 0) ::
  (77, true, .iload 9, 2, 0, 0, 0, 0, 0) ::
  (79, false, .iload 8, 2, 0, 0, 0, 0, 0) ::
  (81, false, .iadd, 1, 0, 0, 0, 0, 0) ::
  (82, false, .istore 9, 2, 0, 0, 0, 0, 0) ::
  (84, true, .aload_n 0, 1, 0, 0, 0, 0, 0) ::
  (85, false, .lload_n 1, 1, 0, 0, 0, 0, 0) ::
  (86, false, .lload_n 3, 1, 0, 0, 0, 0, 0) ::
  cl_245_2
def cl_245_0 : List mj_E := (0, false, .aload_n 0, 1, 0, 0, 0, 0, 0) ::
  (1, false, .bipush 8, 2, 0, 0, 0, jI 8, 0) ::
  (3, false, .putfield 313, 3, 17, 48, 0, 0, 0) ::
  (6, true, .iconst 2, 1, 0, 0, 0, jI 2, 0) ::
  (7, false, .iload 5, 2, 0, 0, 0, 0, 0) ::
  (9, false, .imul, 1, 0, 0, 0, 0, 0) ::
  (10, false, .aload_n 0, 1, 0, 0, 0, 0, 0) ::
  (11, false, .getfield 300, 3, 17, 27, 0, 0, 0) ::
  (14, false, .if_icmp .le 7, 3, 11, 0, 0, 0, 0) ::
  (17, false, .iconst (-1), 1, 0, 0, 0, jI (-1), 0) ::
  (18, false, .goto 4, 3, 12, 0, 0, 0, 0) ::
  (21, false, .iconst 0, 1, 0, 0, 0, jI 0, 0) ::
  (22, true, .istore 6, 2, 0, 0, 0, 0, 0) ::
  (24, true, .aload_n 0, 1, 0, 0, 0, 0, 0) ::
  (25, false, .lload_n 1, 1, 0, 0, 0, 0, 0) ::
  (26, false, .lload_n 3, 1, 0, 0, 0, 0, 0) ::
  (27, false, .iload 5, 2, 0, 0, 0, 0, 0) ::
  (29, false, .iload 6, 2, 0, 0, 0, 0, 0) ::
  (31, false, .invokevirtual 360, 3, 246, 4, 17, 0, 0) ::
  (34, true, .aload_n 0, 1, 0, 0, 0, 0, 0) ::
  (35, false, .invokevirtual 364, 3, 253, 0, 17, 0, 0) ::
  (38, true, .iconst 0, 1, 0, 0, 0, jI 0, 0) ::
  (39, false, .istore 7, 2, 0, 0, 0, 0, 0) ::
  (41, false, .iconst 1, 1, 0, 0, 0, jI 1, 0) ::
  cl_245_1
def cd_245 : List mj_E := cl_245_0
def cx_245 : mj_X := (0, [], [])
theorem tb_245 : mj_tab (mj_mt 245) cx_245 cd_245 mj_mh [(0, 0, 0), (0, 0, 0), (7147, 0, 0), (0, 0, 0), (0, 0, 0), (0, 0, 0), (0, 0, 0), (7126, 0, 0), (0, 0, 0), (0, 0, 0), (0, 0, 0), (0, 0, 0), (0, 0, 0), (0, 0, 0), (0, 0, 0), (0, 0, 0), (0, 0, 0), (0, 0, 0), (8133, 0, 0), (0, 0, 0), (8161, 0, 0), (0, 0, 0), (0, 0, 0), (0, 0, 0), (0, 0, 0), (0, 0, 0), (0, 0, 0), (0, 0, 0), (0, 0, 0), (0, 0, 0), (0, 0, 0), (0, 0, 0), (0, 0, 0), (0, 0, 0), (0, 0, 0), (0, 0, 0), (0, 0, 0), (0, 0, 0), (0, 0, 0), (0, 0, 0), (0, 0, 0), (0, 0, 0), (0, 0, 0), (0, 0, 0), (0, 0, 0), (0, 0, 0), (0, 0, 0), (0, 0, 0), (0, 0, 0), (0, 0, 0), (8133, 0, 0), (0, 0, 0), (8165, 0, 0), (0, 0, 0), (0, 0, 0), (0, 0, 0), (0, 0, 0), (8161, 0, 0), (0, 0, 0), (0, 0, 0), (0, 0, 0), (0, 0, 0), (0, 0, 0), (0, 0, 0)] = true := mj_tab_f (by decide +kernel)
theorem ct_245 (G : mj_G) {h : mj_H} (L : isLam h) {r a p M : Nat} {tn an : Nat → Int} (hr : isMr h r a tn an) (hp : p < r) (ho : isOK h) (hM : M ≤ 2180) {z : zI} (hz : (-9223372036854775808 < z.1 ∧ z.1 < 9223372036854775808) ∧ -9223372036854775808 < z.2 ∧ z.2 < 9223372036854775808) {u v : Nat} (huv : u ≤ 900 ∧ v ≤ 900) (hsk : skP (cmZ tn an r p a z) (j0R r p) u v) (hb : ∀ j : Int, j0R r p - v - 1 ≤ j → j ≤ j0R r p + u + 1 → cmB M tn an r p a z j) : mj_Ct G (mj_mt 245) 0 0 [.ref 1412, .long (jL z.1), .long (jL z.2), .int (jI p)] h (fun o h' => o = .returned none ∧ (∃ (m : Nat) (w : zI), isZ h' m w (cmZ tn an r p a z (j0R r p + u - v)).1 (cmZ tn an r p a z (j0R r p + u - v)).2 ∧ stR m (cmZ tn an r p a z (j0R r p + u - v)).1 ∧ stR m (cmZ tn an r p a z (j0R r p + u - v)).2 ∧ m ≤ M + 8) ∧ FrM i48 noT s40 h h') := by
  obtain ⟨⟨hr1, hr2⟩, ⟨⟨hr3, hr4⟩, hr5⟩, -, -⟩ := id hr
  obtain ⟨Z, hZ⟩ : ∃ Z : Int → zI, Z = cmZ tn an r p a z := ⟨_, rfl⟩
  obtain ⟨j0, hj0⟩ : ∃ j : Int, j = j0R r p := ⟨_, rfl⟩
  have hj01 : -1 ≤ j0 ∧ j0 ≤ 0 := by
    rw [hj0]
    unfold j0R
    split <;> omega
  rw [← hZ, ← hj0] at hsk ⊢
  rw [← hj0] at hb
  obtain ⟨sk1, sk2, sk3, sk4⟩ := hsk
  have hrM : ∀ {h' : mj_H}, FrM i48 noT s40 h h' → isMr h' r a tn an := fun F => hr.M F (by omega) (by omega)
  have come : ∀ {h' : mj_H} {m : Nat} {w : zI} {x y : Int} {j : Int}, FrM i48 noT s40 h h' → isZ h' m w x y → m ≤ M + 8 → j0 - v - 1 ≤ j → j ≤ j0 + u + 1 → mj_Ct G (mj_mt 246) 0 0 [.ref 1412, .long (jL z.1), .long (jL z.2), .int (jI p), .int (jI j)] h' (fun o h2 => o = .returned none ∧ (∃ m2, isZ h2 m2 (Z j) x y ∧ stR m2 (Z j).1 ∧ stR m2 (Z j).2 ∧ m ≤ m2 ∧ m2 ≤ M + 8) ∧ FrM i48 noT s40 h' h2) := by
    intro h' m w x y j F hs hm g1 g2
    rw [hZ]
    exact ct_246 G (F.lay L) (hrM F) hp hs hm hM hz (by omega) (hb j g1 g2)
  refine mj_Ct_of mj_ok tb_245 rfl rfl (Nat.le_of_ble_eq_true rfl) (fun Run hR => ?_)
  let KS : mj_H → Nat → zI → Int → Prop := fun h' m w jb => isZ h' m w (Z jb).1 (Z jb).2 ∧ stR m (Z jb).1 ∧ stR m (Z jb).2 ∧ m ≤ M + 8 ∧ FrM i48 noT s40 h h'
  have fin : ∀ (h' : mj_H) (m : Nat) (w : zI) (way k more : Int32), KS h' m w (j0 + u - v) → Run 44 (l245 z p j0 way (jI (-3)) k more) [] h' (0, 0) := by
    rintro h' m w way k more ⟨k1, k2, k3, k4, F⟩
    refine hR 60 25 _ _ _ _ _ _ rfl ?_
    refine ⟨fun c => ⟨rfl, ⟨m, w, k1, k2, k3, k4⟩, F⟩, fun c => absurd (show jI (-3) < jI (-1) by decide) c⟩
  have fin116 : ∀ (h' : mj_H) (m : Nat) (w : zI) (way k more : Int32), KS h' m w (j0 + u - v) → Run 116 (l245 z p j0 way (jI (-1)) k more) [] h' (0, 0) := by
    intro h' m w way k more hK
    refine hR 60 61 _ _ _ _ _ _ rfl ?_
    exact fin h' m w _ _ _ hK
  have fin72 : ∀ (h' : mj_H) (m : Nat) (w : zI) (way k : Int32), KS h' m w (j0 + u - v) → Run 72 (l245 z p j0 way (jI (-1)) k (jI 0)) [] h' (0, 0) := by
    intro h' m w way k hK
    refine hR 60 39 _ _ _ _ _ _ rfl ?_
    exact ⟨fun c => fin116 h' m w _ _ _ hK, fun c => absurd rfl c⟩
  -- one trial of a neighbour
  have tryN : ∀ (s : Int) (jb : Int) (h' : mj_H) (m : Nat) (w : zI) (way kI : Int32), (s = 1 ∨ s = -1) → KS h' m w jb → j0 - v - 1 ≤ jb + s → jb + s ≤ j0 + u + 1 → (∀ (h2 : mj_H) (m2 : Nat) (w2 : zI) (way2 : Int32), btZ (Z (jb + s)) (Z jb) → KS h2 m2 w2 (jb + s) → way2 = jI s → Run 72 (l245 z p j0 way2 (jI s) (jI (jb + s)) (jI 1)) [] h2 (0, 0)) → (∀ (h2 : mj_H) (m2 : Nat) (w2 : zI), ¬ btZ (Z (jb + s)) (Z jb) → KS h2 m2 w2 jb → Run 72 (l245 z p j0 way (jI s) (jI (jb + s)) (jI 0)) [] h2 (0, 0)) → kI = jI jb → Run 72 (l245 z p j0 way (jI s) kI (jI 1)) [] h' (0, 0) := by
    rintro s jb h' m w way kI hs ⟨k1, k2, k3, k4, F⟩ g1 g2 yes no rfl
    have r109 : ∀ (h2 : mj_H) (m2 : Nat) (w2 : zI), btZ (Z (jb + s)) (Z jb) → KS h2 m2 w2 (jb + s) → Run 109 (l245 z p j0 way (jI s) (jI (jb + s)) (jI 1)) [] h2 (0, 0) := by
      intro h2 m2 w2 hbt hK2
      refine hR 60 58 _ _ _ _ _ _ rfl ?_
      exact yes h2 m2 w2 _ hbt hK2 rfl
    have r105 : ∀ (h2 : mj_H) (m2 : Nat), btZ (Z (jb + s)) (Z jb) → isZ h2 m2 (Z (jb + s)) (Z jb).1 (Z jb).2 → stR m2 (Z (jb + s)).1 → stR m2 (Z (jb + s)).2 → m2 ≤ M + 8 → FrM i48 noT s40 h h2 → Run 105 (l245 z p j0 way (jI s) (jI (jb + s)) (jI 1)) [] h2 (0, 0) := by
      intro h2 m2 hbt z2 t1 t2 hm2 F2
      have L2 := F2.lay L
      refine hR 60 56 _ _ _ _ _ _ rfl ?_
      refine ⟨L2.K 1412 rfl, jcallP (ct_253 G L2 z2) ?_⟩
      rintro o h3 ⟨rfl, s3, F3⟩
      exact r109 h3 m2 (Z (jb + s)) hbt ⟨s3.z rfl rfl rfl rfl, t1, t2, hm2, F2.trans F3⟩
    have r94 : ∀ (h2 : mj_H) (m2 : Nat), isZ h2 m2 (Z (jb + s)) (Z jb).1 (Z jb).2 → stR m2 (Z (jb + s)).1 → stR m2 (Z (jb + s)).2 → stR m2 (Z jb).1 → stR m2 (Z jb).2 → m2 ≤ M + 8 → FrM i48 noT s40 h h2 → Run 94 (l245 z p j0 way (jI s) (jI (jb + s)) (jI 1)) [] h2 (0, 0) := by
      intro h2 m2 z2 t1 t2 t3 t4 hm2 F2
      have L2 := F2.lay L
      have r100 : ∀ (h3 : mj_H) (b : Int), isZ h3 m2 (Z (jb + s)) (Z jb).1 (Z jb).2 → FrM i48 noT s40 h h3 → ((b = 1 ∧ btZ (Z (jb + s)) (Z jb)) ∨ (b = 0 ∧ ¬ btZ (Z (jb + s)) (Z jb))) → Run 100 (l245 z p j0 way (jI s) (jI (jb + s)) (jI b)) [] h3 (0, 0) := by
        intro h3 b z3 F3 hbb
        refine hR 60 54 _ _ _ _ _ _ rfl ?_
        rcases hbb with ⟨rfl, q⟩ | ⟨rfl, q⟩
        · exact ⟨fun c => absurd c (by decide), fun c => r105 h3 m2 q z3 t1 t2 hm2 F3⟩
        · exact ⟨fun c => no h3 m2 _ q ⟨z3, t3, t4, hm2, F3⟩, fun c => absurd rfl c⟩
      refine hR 60 51 _ _ _ _ _ _ rfl ?_
      refine ⟨L2.K 1412 rfl, jcallP (ct_254 G L2 z2 (fun i hi => ?_)) ?_⟩
      · rcases (show i = 0 ∨ i = 1 ∨ i = 2 ∨ i = 3 by omega) with e | e | e | e <;> subst e
        · exact t1
        · exact t2
        · exact t3
        · exact t4
      · rintro o h3 ⟨⟨b, rfl, hbb⟩, s3, F3⟩
        exact r100 h3 b s3 (F2.trans F3) hbb
    have r84 : ∀ kI : Int32, kI = jI (jb + s) → Run 84 (l245 z p j0 way (jI s) kI (jI 1)) [] h' (0, 0) := by
      rintro kI rfl
      refine hR 60 45 _ _ _ _ _ _ rfl ?_
      refine ⟨(F.lay L).K 1412 rfl, jcallP (come F k1 k4 g1 g2) ?_⟩
      rintro o h2 ⟨rfl, ⟨m2, z2, t1, t2, e1, e2⟩, F2⟩
      exact r94 h2 m2 z2 t1 t2 (k2.up e1) (k3.up e1) e2 (F.trans F2)
    have r77 : Run 77 (l245 z p j0 way (jI s) (jI jb) (jI 1)) [] h' (0, 0) := by
      refine hR 60 41 _ _ _ _ _ _ rfl ?_
      exact r84 _ (by rw [jI_add])
    refine hR 60 39 _ _ _ _ _ _ rfl ?_
    exact ⟨fun c => absurd c (by decide), fun c => r77⟩
  have down : u = 0 → ∀ (q i : Nat) (h' : mj_H) (m : Nat) (w : zI) (way kI : Int32), i + q = v → KS h' m w (j0 - i) → kI = jI (j0 - i) → Run 72 (l245 z p j0 way (jI (-1)) kI (jI 1)) [] h' (0, 0) := by
    intro hu q
    obtain ⟨d1, d2⟩ := sk3 hu
    induction q with
    | zero =>
      intro i h' m w way kI hi hK e
      have hiv : i = v := by omega
      refine tryN (-1) (j0 - i) h' m w way kI (Or.inr rfl) hK (by omega) (by omega) (fun h2 m2 w2 way2 hbt _ _ => ?_) (fun h2 m2 w2 _ hK2 => ?_) e
      · rw [hiv] at hbt
        exact absurd hbt d2
      · rw [hiv] at hK2
        rw [show j0 - (v : Int) = j0 + u - v by omega] at hK2
        exact fin72 h2 m2 w2 _ _ hK2
    | succ q ih =>
      intro i h' m w way kI hi hK e
      refine tryN (-1) (j0 - i) h' m w way kI (Or.inr rfl) hK (by omega) (by omega) (fun h2 m2 w2 way2 _ hK2 _ => ?_) (fun h2 m2 w2 hbt _ => ?_) e
      · have e2 : j0 - (i : Int) + -1 = j0 - ((i + 1 : Nat) : Int) := by omega
        rw [e2] at hK2 ⊢
        exact ih (i + 1) h2 m2 w2 _ _ (by omega) hK2 rfl
      · exact absurd (d1 i (by omega)) hbt
  have r70 : ∀ (h' : mj_H) (m : Nat) (w : zI) (way s mI : Int32) (x10 : Int32), Run 72 (l245 z p j0 way s (jI j0) mI) [] h' (0, 0) → Run 70 (l245 z p j0 way s (jI j0) x10) [.int mI] h' (0, 0) := by
    intro h' m w way s mI x10 hrun
    refine hR 60 38 _ _ _ _ _ _ rfl ?_
    exact hrun
  have after : ∀ (h' : mj_H) (m : Nat) (w : zI) (way k more : Int32), KS h' m w (j0 + u) → ((u = 0 ∧ way = jI 0) ∨ (0 < u ∧ way = jI 1)) → Run 116 (l245 z p j0 way (jI 1) k more) [] h' (0, 0) := by
    intro h' m w way k more hK hw
    have r54 : Run 54 (l245 z p j0 way (jI (-1)) (jI j0) more) [] h' (0, 0) := by
      refine hR 60 30 _ _ _ _ _ _ rfl ?_
      rcases hw with ⟨hu, rfl⟩ | ⟨hu, rfl⟩
      · refine ⟨fun c => r70 h' m w _ _ _ _ ?_, fun c => absurd rfl c⟩
        refine down hu v 0 h' m w _ _ (by omega) ?_ ?_
        · rw [show j0 - ((0 : Nat) : Int) = j0 + u by omega]
          exact hK
        · congr 1
          omega
      · refine ⟨fun c => absurd c (by decide), fun c => ⟨fun c2 => absurd c2 (by decide), fun c2 => r70 h' m w _ _ _ _ ?_⟩⟩
        refine fin72 h' m w _ _ ?_
        rw [sk4 hu, show j0 + (u : Int) - ((0 : Nat) : Int) = j0 + u by omega]
        exact hK
    have r50 : Run 50 (l245 z p j0 way (jI (-1)) k more) [] h' (0, 0) := by
      refine hR 60 28 _ _ _ _ _ _ rfl ?_
      exact r54
    have r44 : Run 44 (l245 z p j0 way (jI (-1)) k more) [] h' (0, 0) := by
      refine hR 60 25 _ _ _ _ _ _ rfl ?_
      exact ⟨fun c => absurd c (by decide), fun c => r50⟩
    refine hR 60 61 _ _ _ _ _ _ rfl ?_
    exact r44
  have after72 : ∀ (h' : mj_H) (m : Nat) (w : zI) (way k : Int32), KS h' m w (j0 + u) → ((u = 0 ∧ way = jI 0) ∨ (0 < u ∧ way = jI 1)) → Run 72 (l245 z p j0 way (jI 1) k (jI 0)) [] h' (0, 0) := by
    intro h' m w way k hK hw
    refine hR 60 39 _ _ _ _ _ _ rfl ?_
    exact ⟨fun c => after h' m w _ _ _ hK hw, fun c => absurd rfl c⟩
  have upw : ∀ (q i : Nat) (h' : mj_H) (m : Nat) (w : zI) (way kI : Int32), i + q = u → KS h' m w (j0 + i) → ((i = 0 ∧ way = jI 0) ∨ (0 < i ∧ way = jI 1)) → kI = jI (j0 + i) → Run 72 (l245 z p j0 way (jI 1) kI (jI 1)) [] h' (0, 0) := by
    intro q
    induction q with
    | zero =>
      intro i h' m w way kI hi hK hw e
      have hiu : i = u := by omega
      refine tryN 1 (j0 + i) h' m w way kI (Or.inl rfl) hK (by omega) (by omega) (fun h2 m2 w2 way2 hbt _ _ => ?_) (fun h2 m2 w2 _ hK2 => ?_) e
      · rw [hiu] at hbt
        exact absurd hbt sk2
      · rw [hiu] at hK2
        exact after72 h2 m2 w2 _ _ hK2 (by rw [hiu] at hw; exact hw)
    | succ q ih =>
      intro i h' m w way kI hi hK hw e
      refine tryN 1 (j0 + i) h' m w way kI (Or.inl rfl) hK (by omega) (by omega) (fun h2 m2 w2 way2 _ hK2 hw2 => ?_) (fun h2 m2 w2 hbt _ => ?_) e
      · have e2 : j0 + (i : Int) + 1 = j0 + ((i + 1 : Nat) : Int) := by omega
        rw [e2] at hK2 ⊢
        exact ih (i + 1) h2 m2 w2 _ _ (by omega) hK2 (Or.inr ⟨by omega, hw2⟩) rfl
      · exact absurd (sk1 i (by omega)) hbt
  have r44s : ∀ (h' : mj_H) (m : Nat) (w : zI), KS h' m w j0 → ∀ (x9 x10 : Option Value), Run 44 [some (.ref 1412), some (.long (jL z.1)), none, some (.long (jL z.2)), none, some (.int (jI p)), some (.int (jI j0)), some (.int (jI 0)), some (.int (jI 1)), x9, x10] [] h' (0, 0) := by
    intro h' m w hK
    have go72 : Run 72 (l245 z p j0 (jI 0) (jI 1) (jI j0) (jI 1)) [] h' (0, 0) := by
      refine upw u 0 h' m w _ _ (by omega) ?_ (Or.inl ⟨rfl, rfl⟩) ?_
      · rw [show j0 + ((0 : Nat) : Int) = j0 by omega]
        exact hK
      · congr 1
        omega
    have r70s : ∀ (x10 : Option Value), Run 70 [some (.ref 1412), some (.long (jL z.1)), none, some (.long (jL z.2)), none, some (.int (jI p)), some (.int (jI j0)), some (.int (jI 0)), some (.int (jI 1)), some (.int (jI j0)), x10] [.int (jI 1)] h' (0, 0) := by
      intro x10
      refine hR 60 38 _ _ _ _ _ _ rfl ?_
      exact go72
    have r54s : ∀ (x10 : Option Value), Run 54 [some (.ref 1412), some (.long (jL z.1)), none, some (.long (jL z.2)), none, some (.int (jI p)), some (.int (jI j0)), some (.int (jI 0)), some (.int (jI 1)), some (.int (jI j0)), x10] [] h' (0, 0) := by
      intro x10
      refine hR 60 30 _ _ _ _ _ _ rfl ?_
      exact ⟨fun c => r70s _, fun c => absurd rfl c⟩
    have r50s : ∀ (x9 x10 : Option Value), Run 50 [some (.ref 1412), some (.long (jL z.1)), none, some (.long (jL z.2)), none, some (.int (jI p)), some (.int (jI j0)), some (.int (jI 0)), some (.int (jI 1)), x9, x10] [] h' (0, 0) := by
      intro x9 x10
      refine hR 60 28 _ _ _ _ _ _ rfl ?_
      exact r54s _
    intro x9 x10
    refine hR 60 25 _ _ _ _ _ _ rfl ?_
    exact ⟨fun c => absurd c (by decide), fun c => r50s _ _⟩
  have r38 : ∀ (h' : mj_H) (m : Nat) (w : zI) (x7 x8 x9 x10 : Option Value), KS h' m w j0 → Run 38 [some (.ref 1412), some (.long (jL z.1)), none, some (.long (jL z.2)), none, some (.int (jI p)), some (.int (jI j0)), x7, x8, x9, x10] [] h' (0, 0) := by
    intro h' m w x7 x8 x9 x10 hK
    refine hR 60 21 _ _ _ _ _ _ rfl ?_
    exact r44s h' m w hK _ _
  have r34 : ∀ (h' : mj_H) (m : Nat) (x y : Int) (x7 x8 x9 x10 : Option Value), isZ h' m (Z j0) x y → stR m (Z j0).1 → stR m (Z j0).2 → m ≤ M + 8 → FrM i48 noT s40 h h' → Run 34 [some (.ref 1412), some (.long (jL z.1)), none, some (.long (jL z.2)), none, some (.int (jI p)), some (.int (jI j0)), x7, x8, x9, x10] [] h' (0, 0) := by
    intro h' m x y x7 x8 x9 x10 z1 t1 t2 hm F
    have L' := F.lay L
    refine hR 60 19 _ _ _ _ _ _ rfl ?_
    refine ⟨L'.K 1412 rfl, jcallP (ct_253 G L' z1) ?_⟩
    rintro o h3 ⟨rfl, s3, F3⟩
    exact r38 h3 m (Z j0) _ _ _ _ ⟨s3.z rfl rfl rfl rfl, t1, t2, hm, F.trans F3⟩
  have F1 : FrM i48 noT s40 h (sI h 1412 48 (jI 8)) := (FrM.refl i48 noT s40 h).fI (k := 48) rfl _
  have ho1 : isOK (sI h 1412 48 (jI 8)) := fun c hc => ho c hc
  have hd1 : isDg (sI h 1412 48 (jI 8)) 8 := ⟨sI_at _ _ _ _, by omega, by omega⟩
  obtain ⟨w0, x0, y0, hs0⟩ := rows_ex ho1 hd1
  have L1 := F1.lay L
  have r24 : ∀ (x7 x8 x9 x10 : Option Value), Run 24 [some (.ref 1412), some (.long (jL z.1)), none, some (.long (jL z.2)), none, some (.int (jI p)), some (.int (jI j0)), x7, x8, x9, x10] [] (sI h 1412 48 (jI 8)) (0, 0) := by
    intro x7 x8 x9 x10
    refine hR 60 13 _ _ _ _ _ _ rfl ?_
    refine ⟨L1.K 1412 rfl, jcallP (come F1 hs0 (by omega) (by omega) (by omega)) ?_⟩
    rintro o h2 ⟨rfl, ⟨m2, z2, t1, t2, e1, e2⟩, F2⟩
    exact r34 h2 m2 _ _ _ _ _ _ z2 t1 t2 e2 (F1.trans F2)
  have r22 : ∀ (jI' : Int32) (x6 x7 x8 x9 x10 : Option Value), jI' = jI j0 → Run 22 [some (.ref 1412), some (.long (jL z.1)), none, some (.long (jL z.2)), none, some (.int (jI p)), x6, x7, x8, x9, x10] [.int jI'] (sI h 1412 48 (jI 8)) (0, 0) := by
    rintro jI' x6 x7 x8 x9 x10 rfl
    refine hR 60 12 _ _ _ _ _ _ rfl ?_
    exact r24 _ _ _ _
  have r6 : ∀ (x6 x7 x8 x9 x10 : Option Value), Run 6 [some (.ref 1412), some (.long (jL z.1)), none, some (.long (jL z.2)), none, some (.int (jI p)), x6, x7, x8, x9, x10] [] (sI h 1412 48 (jI 8)) (0, 0) := by
    intro x6 x7 x8 x9 x10
    have e27 : hI (sI h 1412 48 (jI 8)) 1412 27 = jI r := (hrM F1).1.1
    refine hR 60 3 _ _ _ _ _ _ rfl ?_
    refine ⟨L1.K 1412 rfl, fun c => ?_, fun c => ?_⟩
    · rw [e27] at c
      simp (disch := omega) only [mj_lcm, jI_lt, jI_le, jI_eq, jL_lt, jL_le, jL_eq, jI_lt0, jI_0le, jI_0lt, jI_le0, jI_eq0, jL_eq0, jI_L, jI_add, jI_sub, jI_mul, jI_neg, jL_add, jL_sub, jL_mul, jL_neg, jL_I, jI_div, jI_mod, jL_div, jL_mod] at c
      refine r22 _ _ _ _ _ _ ?_
      rw [hj0]
      unfold j0R
      rw [if_neg (by omega)]
    · rw [e27] at c
      simp (disch := omega) only [mj_lcm, jI_lt, jI_le, jI_eq, jL_lt, jL_le, jL_eq, jI_lt0, jI_0le, jI_0lt, jI_le0, jI_eq0, jL_eq0, jI_L, jI_add, jI_sub, jI_mul, jI_neg, jL_add, jL_sub, jL_mul, jL_neg, jL_I, jI_div, jI_mod, jL_div, jL_mod] at c
      refine r22 _ _ _ _ _ _ ?_
      rw [hj0]
      unfold j0R
      rw [if_pos (by omega)]
  refine hR 60 0 _ _ _ _ _ _ rfl ?_
  refine ⟨L.K 1412 rfl, ?_⟩
  exact r6 _ _ _ _ _
