/-! the model: all trials above 0 -/
section
variable (Rf : Int → Int → Int → List Fam)
def rR (d g m : Int) : Nat → Nat → List Fam
  | 0, _ => []
  | c + 1, b => (if decide (rtD (4 * m.natAbs) d b) = true then Rf g m b else []) ++ rR d g m c (b + 1)
def mS (d n : Int) (g : Nat) : List Fam := if n.tmod ((g * g : Nat) : Int) = 0 then rR Rf d g (n.tdiv ((g * g : Nat) : Int)) (2 * (n.tdiv ((g * g : Nat) : Int)).natAbs) 0 else []
def mF (d n : Int) : Nat → Nat → List Fam
  | 0, _ => []
  | c + 1, g => mS Rf d n g ++ mF d n c (g + 1)
theorem mS_big {d n : Int} (hn : n ≠ 0) {g : Nat} (h : n.natAbs < g * g) : mS Rf d n g = [] := by
  unfold mS
  rw [if_neg]
  intro z
  have h1 := Int.natAbs_tmod n ((g * g : Nat) : Int)
  rw [z, Int.natAbs_natCast, Nat.mod_eq_of_lt h] at h1
  have : (0 : Int).natAbs = 0 := rfl
  omega
theorem mF_nil {d n : Int} (hn : n ≠ 0) : ∀ (c g : Nat), n.natAbs < g * g → mF Rf d n c g = []
  | 0, _, _ => rfl
  | c + 1, g, h => by
    show mS Rf d n g ++ mF Rf d n c (g + 1) = []
    have : g * g ≤ (g + 1) * (g + 1) := Nat.mul_le_mul (by omega) (by omega)
    rw [mS_big Rf hn h, mF_nil hn c (g + 1) (by omega)]
    rfl
end
/-- what is to be known of one trial -/
def trOK (d w : Int) (M : Nat) (tn an : Nat → Int) (r a : Nat) (RA : Nat → pI) (Rf : Int → Int → Int → List Fam) (g m b : Int) : Prop := (Int.gcd (Int.gcd m b) (frmO d m b).2.2 = 1 → trm d w (lnF d w (frmO d m b)) (frmO d m b)) ∧ ((-9223372036854775808 < (rcT d w g m b (lnF d w (frmO d m b))).2.2.2.2.1 ∧ (rcT d w g m b (lnF d w (frmO d m b))).2.2.2.2.1 < 9223372036854775808) ∧ -9223372036854775808 < (rcT d w g m b (lnF d w (frmO d m b))).2.2.2.2.2 ∧ (rcT d w g m b (lnF d w (frmO d m b))).2.2.2.2.2 < 9223372036854775808) ∧ trRes d w M tn an r a RA g m b (lnF d w (frmO d m b)) (Rf g m b)
abbrev l242 (n : Int64) (g : Int64) (x5 x6 x7 x8 x9 x10 : Option Value) : mj_Ls := [some (.ref 1412), some (.long n), none, some (.long g), none, x5, x6, x7, x8, x9, x10]
/-- FormHouseModel.above(J)V; cuts at [2, 13, 26, 33, 44, 47, 62, 80, 89, 98] -/
def cl_242_2 : List mj_E := (77, false, .ifCond .ne 12, 3, 54, 0, 0, 0, 0) ::
  (80, true, .aload_n 0, 1, 0, 0, 0, 0, 0) ::
  (81, false, .lload_n 3, 1, 0, 0, 0, 0, 0) ::
  (82, false, .lload 5, 2, 0, 0, 0, 0, 0) ::
  (84, false, .lload 9, 2, 0, 0, 0, 0, 0) ::
  (86, false, .invokevirtual 388, 3, 243, 3, 17, 0, 0) ::
  (89, true, .lload 9, 2, 0, 0, 0, 0, 0) ::
  (91, false, .lconst 1, 1, 0, 0, 0, 0, jL 1) ::
  (92, false, .ladd, 1, 0, 0, 0, 0, 0) ::
  (93, false, .lstore 9, 2, 0, 0, 0, 0, 0) ::
  (95, false, .goto (-48), 3, 31, 0, 0, 0, 0) ::
  (98, true, .lload_n 3, 1, 0, 0, 0, 0, 0) ::
  (99, false, .lconst 1, 1, 0, 0, 0, 0, jL 1) ::
  (100, false, .ladd, 1, 0, 0, 0, 0, 0) ::
  (101, false, .lstore_n 3, 1, 0, 0, 0, 0, 0) ::
  (102, false, .goto (-100), 3, 2, 0, 0, 0, 0) ::
  (105, false, .return_, 1, 0, 0, 0, 0, 0) ::
  []
def cl_242_1 : List mj_E := (33, true, .ldc2_w 138, 3, 0, 0, 0, 0, jL 4) ::
  (36, false, .lload 5, 2, 0, 0, 0, 0, 0) ::
  (38, false, .invokestatic 124, 3, 196, 1, 0, 0, 0) ::
  (41, false, .lmul, 1, 0, 0, 0, 0, 0) ::
  (42, false, .lstore 7, 2, 0, 0, 0, 0, 0) ::
  (44, true, .lconst 0, 1, 0, 0, 0, 0, jL 0) ::
  (45, false, .lstore 9, 2, 0, 0, 0, 0, 0) ::
  (47, true, .lload 9, 2, 0, 0, 0, 0, 0) ::
  (49, false, .ldc2_w 130, 3, 0, 0, 0, 0, jL 2) ::
  (52, false, .lload 5, 2, 0, 0, 0, 0, 0) ::
  (54, false, .invokestatic 124, 3, 196, 1, 0, 0, 0) ::
  (57, false, .lmul, 1, 0, 0, 0, 0, 0) ::
  (58, false, .lcmp, 1, 0, 0, 0, 0, 0) ::
  (59, false, .ifCond .ge 39, 3, 59, 0, 0, 0, 0) ::
  (62, true, .lload 9, 2, 0, 0, 0, 0, 0) ::
  (64, false, .lload 9, 2, 0, 0, 0, 0, 0) ::
  (66, false, .lmul, 1, 0, 0, 0, 0, 0) ::
  (67, false, .aload_n 0, 1, 0, 0, 0, 0, 0) ::
  (68, false, .getfield 9, 3, 17, 1, 1, 0, 0) ::
  (71, false, .lsub, 1, 0, 0, 0, 0, 0) ::
  (72, false, .lload 7, 2, 0, 0, 0, 0, 0) ::
  (74, false, .lrem, 1, 0, 0, 0, 0, 0) ::
  (75, false, .lconst 0, 1, 0, 0, 0, 0, jL 0) ::
  (76, false, .lcmp, 1, 0, 0, 0, 0, 0) ::
  cl_242_2
def cl_242_0 : List mj_E := (0, false, .lconst 1, 1, 0, 0, 0, 0, jL 1) ::
  (1, false, .lstore_n 3, 1, 0, 0, 0, 0, 0) ::
  (2, true, .lload_n 3, 1, 0, 0, 0, 0, 0) ::
  (3, false, .lload_n 3, 1, 0, 0, 0, 0, 0) ::
  (4, false, .lmul, 1, 0, 0, 0, 0, 0) ::
  (5, false, .lload_n 1, 1, 0, 0, 0, 0, 0) ::
  (6, false, .invokestatic 124, 3, 196, 1, 0, 0, 0) ::
  (9, false, .lcmp, 1, 0, 0, 0, 0, 0) ::
  (10, false, .ifCond .gt 95, 3, 64, 0, 0, 0, 0) ::
  (13, true, .lload_n 1, 1, 0, 0, 0, 0, 0) ::
  (14, false, .lload_n 3, 1, 0, 0, 0, 0, 0) ::
  (15, false, .lload_n 3, 1, 0, 0, 0, 0, 0) ::
  (16, false, .lmul, 1, 0, 0, 0, 0, 0) ::
  (17, false, .lrem, 1, 0, 0, 0, 0, 0) ::
  (18, false, .lconst 0, 1, 0, 0, 0, 0, jL 0) ::
  (19, false, .lcmp, 1, 0, 0, 0, 0, 0) ::
  (20, false, .ifCond .eq 6, 3, 18, 0, 0, 0, 0) ::
  (23, false, .goto 75, 3, 59, 0, 0, 0, 0) ::
  (26, true, .lload_n 1, 1, 0, 0, 0, 0, 0) ::
  (27, false, .lload_n 3, 1, 0, 0, 0, 0, 0) ::
  (28, false, .lload_n 3, 1, 0, 0, 0, 0, 0) ::
  (29, false, .lmul, 1, 0, 0, 0, 0, 0) ::
  (30, false, .ldiv, 1, 0, 0, 0, 0, 0) ::
  (31, false, .lstore 5, 2, 0, 0, 0, 0, 0) ::
  cl_242_1
def cd_242 : List mj_E := cl_242_0
def cx_242 : mj_X := (0, [], [])
theorem tb_242 : mj_tab (mj_mt 242) cx_242 cd_242 mj_mh [(0, 0, 0), (0, 0, 0), (0, 0, 0), (0, 0, 0), (0, 0, 0), (0, 0, 0), (6233, 0, 0), (0, 0, 0), (0, 0, 0), (0, 0, 0), (0, 0, 0), (0, 0, 0), (0, 0, 0), (0, 0, 0), (0, 0, 0), (0, 0, 0), (0, 0, 0), (0, 0, 0), (0, 0, 0), (0, 0, 0), (0, 0, 0), (0, 0, 0), (0, 0, 0), (0, 0, 0), (6224, 0, 0), (0, 0, 0), (6233, 0, 0), (0, 0, 0), (0, 0, 0), (0, 0, 0), (0, 0, 0), (0, 0, 0), (6218, 0, 0), (0, 0, 0), (6233, 0, 0), (0, 0, 0), (0, 0, 0), (0, 0, 0), (0, 0, 0), (0, 0, 0), (0, 0, 0), (0, 0, 0), (7100, 0, 0), (0, 0, 0), (0, 0, 0), (0, 0, 0), (0, 0, 0), (0, 0, 0), (0, 0, 0), (0, 0, 0), (0, 0, 0), (0, 0, 0), (0, 0, 0), (8121, 0, 0), (0, 0, 0), (0, 0, 0), (0, 0, 0), (0, 0, 0), (0, 0, 0), (0, 0, 0), (0, 0, 0), (0, 0, 0), (0, 0, 0), (0, 0, 0), (0, 0, 0)] = true := mj_tab_f (by decide +kernel)
theorem ct_242 (G : mj_G) {h : mj_H} (L : isLam h) {d w : Int} (hw : isMw h d w) (hd : 0 < d ∧ d < 1099511627776) (hwb : -1 ≤ w ∧ w < 2147483648) {r a M : Nat} {tn an : Nat → Int} (hr : isMr h r a tn an) {RA : Nat → pI} (hq : isMq h r RA) (ho : isOK h) (hM : M ≤ 2170) (hf : isNf h []) {n : Int} (hn : n ≠ 0) (hnb : n.natAbs ≤ 1000000) {Rf : Int → Int → Int → List Fam} (hok : ∀ g b : Nat, 0 < g → n.tmod ((g * g : Nat) : Int) = 0 → b < 2 * (n.tdiv ((g * g : Nat) : Int)).natAbs → rtD (4 * (n.tdiv ((g * g : Nat) : Int)).natAbs) d b → trOK d w M tn an r a RA Rf g (n.tdiv ((g * g : Nat) : Int)) b) (hlen : (mF Rf d n n.natAbs 1).length < 100000) : mj_Ct G (mj_mt 242) 0 0 [.ref 1412, .long (jL n)] h (fun o h' => o = .returned none ∧ isNf h' (mF Rf d n n.natAbs 1) ∧ isOK h' ∧ FrM iTr jF sTr h h') := by
  obtain ⟨Z, hZ⟩ : ∃ Z, Z = mF Rf d n n.natAbs 1 := ⟨_, rfl⟩
  rw [← hZ] at hlen ⊢
  have hMr : ∀ {h' : mj_H}, FrM iTr jF sTr h h' → isMr h' r a tn an := fun F => hr.M F (by omega) (by omega)
  have hMw : ∀ {h' : mj_H}, FrM iTr jF sTr h h' → isMw h' d w := fun F => hw.M F (by omega) (by omega)
  have hMq : ∀ {h' : mj_H}, FrM iTr jF sTr h h' → isMq h' r RA := fun F => hq.M F (by omega) (by omega)
  refine mj_Ct_of mj_ok tb_242 rfl rfl (Nat.le_of_ble_eq_true rfl) (fun Run hR => ?_)
  have r2 : ∀ (c g : Nat) (l : List Fam) (h' : mj_H) (gL : Int64) (x5 x6 x7 x8 x9 x10 : Option Value), n.natAbs + 1 ≤ g + c → 0 < g → (g - 1) * (g - 1) ≤ n.natAbs → l ++ mF Rf d n c g = Z → isNf h' l → isOK h' → FrM iTr jF sTr h h' → gL = jL (g : Nat) → Run 2 (l242 (jL n) gL x5 x6 x7 x8 x9 x10) [] h' (0, 0) := by
    intro c
    induction c with
    | zero =>
      rintro g l h' gL x5 x6 x7 x8 x9 x10 hc hg0 hgg hl hf' ho' F rfl
      have hkb : g - 1 ≤ 1000 := by
        rcases Nat.lt_or_ge 1000 (g - 1) with z | z
        · have : 1001 * 1001 ≤ (g - 1) * (g - 1) := Nat.mul_le_mul z z
          omega
        · exact z
      have hq1 : g * 1 ≤ g * g := Nat.mul_le_mul (Nat.le_refl _) hg0
      have hq2 : g * g ≤ 1001 * 1001 := Nat.mul_le_mul (by omega) (by omega)
      obtain ⟨q, hqe⟩ : ∃ q, q = g * g := ⟨_, rfl⟩
      have eg : jL ((g : Nat) : Int) * jL ((g : Nat) : Int) = jL (q : Int) := by rw [jL_mul, ← Int.natCast_mul, hqe]
      rw [← hqe] at hq1 hq2
      refine hR 60 2 _ _ _ _ _ _ rfl ?_
      refine jcall (ct_196 G (x := n) (by omega) (by omega) h') ?_
      refine ⟨fun c => ⟨rfl, ?_, ho', F⟩, fun c => ?_⟩
      · rw [← hl]
        show isNf h' (l ++ [])
        rw [List.append_nil]
        exact hf'
      · simp only [mj_lcm] at c
        rw [eg, jL_lt (by omega) (by omega) (by omega) (by omega)] at c
        omega
    | succ c ih =>
      rintro g l h' gL x5 x6 x7 x8 x9 x10 hc hg0 hgg hl hf' ho' F rfl
      have hkb : g - 1 ≤ 1000 := by
        rcases Nat.lt_or_ge 1000 (g - 1) with z | z
        · have : 1001 * 1001 ≤ (g - 1) * (g - 1) := Nat.mul_le_mul z z
          omega
        · exact z
      have hq1 : g * 1 ≤ g * g := Nat.mul_le_mul (Nat.le_refl _) hg0
      have hq2 : g * g ≤ 1001 * 1001 := Nat.mul_le_mul (by omega) (by omega)
      have hmF : mF Rf d n (c + 1) g = mS Rf d n g ++ mF Rf d n c (g + 1) := rfl
      have hnil := mF_nil Rf (d := d) hn (c + 1) g
      have hSd : mS Rf d n g = if n.tmod ((g * g : Nat) : Int) = 0 then rR Rf d g (n.tdiv ((g * g : Nat) : Int)) (2 * (n.tdiv ((g * g : Nat) : Int)).natAbs) 0 else [] := rfl
      have hok2 := fun b => hok g b hg0
      obtain ⟨q, hqe⟩ : ∃ q, q = g * g := ⟨_, rfl⟩
      have eg : jL ((g : Nat) : Int) * jL ((g : Nat) : Int) = jL (q : Int) := by rw [jL_mul, ← Int.natCast_mul, hqe]
      rw [← hqe] at hq1 hq2 hnil hSd hok2
      have htm := tmod_abs n (q : Int)
      have htd := Int.natAbs_tdiv_le_natAbs n (q : Int)
      have r98 : ∀ (l : List Fam) (h3 : mj_H) (x5 x6 x7 x8 x9 x10 : Option Value), q ≤ n.natAbs → l ++ mF Rf d n c (g + 1) = Z → isNf h3 l → isOK h3 → FrM iTr jF sTr h h3 → Run 98 (l242 (jL n) (jL (g : Nat)) x5 x6 x7 x8 x9 x10) [] h3 (0, 0) := by
        intro l h3 x5 x6 x7 x8 x9 x10 hqn hl3 f3 o3 F3
        refine hR 60 59 _ _ _ _ _ _ rfl ?_
        refine ih (g + 1) l h3 _ _ _ _ _ _ _ (by omega) (by omega) ?_ hl3 f3 o3 F3 (by rw [jL_add]; rfl)
        rw [show g + 1 - 1 = g by omega, ← hqe]
        exact hqn
      have r26 : q ≤ n.natAbs → n.tmod (q : Int) = 0 → ∀ (x5 x6 x7 x8 x9 x10 : Option Value), Run 26 (l242 (jL n) (jL (g : Nat)) x5 x6 x7 x8 x9 x10) [] h' (0, 0) := by
        intro hqn ht0
        rw [if_pos ht0] at hSd
        have hok3 := fun b => hok2 b ht0
        obtain ⟨m, hm⟩ : ∃ m, m = n.tdiv (q : Int) := ⟨_, rfl⟩
        rw [← hm] at hSd htd hok3
        have hm0 : m ≠ 0 := by
          intro z
          have h1 := Int.mul_tdiv_add_tmod n (q : Int)
          rw [← hm, ht0, z] at h1
          omega
        have r47 : ∀ (y b : Nat) (l : List Fam) (h3 : mj_H) (bL : Int64), b + y = 2 * m.natAbs → l ++ (rR Rf d g m y b ++ mF Rf d n c (g + 1)) = Z → isNf h3 l → isOK h3 → FrM iTr jF sTr h h3 → bL = jL (b : Nat) → Run 47 (l242 (jL n) (jL (g : Nat)) (some (.long (jL m))) none (some (.long (jL (4 * (m.natAbs : Int))))) none (some (.long bL)) none) [] h3 (0, 0) := by
          intro y
          induction y with
          | zero =>
            rintro b l h3 bL hb hl3 f3 o3 F3 rfl
            refine hR 60 31 _ _ _ _ _ _ rfl ?_
            refine jcall (ct_196 G (x := m) (by omega) (by omega) h3) ?_
            refine ⟨fun c => r98 l h3 _ _ _ _ _ _ hqn hl3 f3 o3 F3, fun c => ?_⟩
            simp only [mj_lcm] at c
            rw [jL_mul, jL_le (by omega) (by omega) (by omega) (by omega)] at c
            omega
          | succ y ihy =>
            rintro b l h3 bL hb hl3 f3 o3 F3 rfl
            have L3 := F3.lay L
            have hrow : rR Rf d g m (y + 1) b = (if decide (rtD (4 * m.natAbs) d b) = true then Rf g m b else []) ++ rR Rf d g m y (b + 1) := rfl
            rw [hrow, List.append_assoc] at hl3
            have hbb : 0 ≤ (b : Int) * b ∧ (b : Int) * b ≤ 4000000000000 := ⟨sqn _, Int.le_trans (Int.mul_le_mul (c := 2000000) (d := 2000000) (by omega) (by omega) (by omega) (by decide)) (by decide)⟩
            have r89 : ∀ (l : List Fam) (h4 : mj_H), l ++ (rR Rf d g m y (b + 1) ++ mF Rf d n c (g + 1)) = Z → isNf h4 l → isOK h4 → FrM iTr jF sTr h h4 → Run 89 (l242 (jL n) (jL (g : Nat)) (some (.long (jL m))) none (some (.long (jL (4 * (m.natAbs : Int))))) none (some (.long (jL (b : Nat)))) none) [] h4 (0, 0) := by
              intro l h4 hl4 f4 o4 F4
              refine hR 60 54 _ _ _ _ _ _ rfl ?_
              exact ihy (b + 1) l h4 _ (by omega) hl4 f4 o4 F4 (by rw [jL_add]; rfl)
            have hlt : l.length < 100000 := by
              have : Z.length = l.length + ((if decide (rtD (4 * m.natAbs) d b) = true then Rf g m b else []) ++ (rR Rf d g m y (b + 1) ++ mF Rf d n c (g + 1))).length := by rw [← hl3, List.length_append]
              omega
            have r80 : rtD (4 * m.natAbs) d b → Run 80 (l242 (jL n) (jL (g : Nat)) (some (.long (jL m))) none (some (.long (jL (4 * (m.natAbs : Int))))) none (some (.long (jL (b : Nat)))) none) [] h3 (0, 0) := by
              intro hrt
              rw [if_pos (decide_eq_true hrt)] at hl3
              obtain ⟨t1, t2, t3⟩ := hok3 b (by omega) hrt
              have c243 := ct_243 G L3 (hMw F3) hd hwb (hMr F3) (hMq F3) o3 hM f3 hlt (g := (g : Nat)) (m := m) (b := (b : Nat)) (by omega) hm0 (by omega) (by omega) t1 t2 t3
              refine hR 60 49 _ _ _ _ _ _ rfl ?_
              refine ⟨L3.K 1412 rfl, jcallP c243 ?_⟩
              rintro o h4 ⟨rfl, f4, o4, F4⟩
              exact r89 _ h4 (by rw [List.append_assoc]; exact hl3) f4 o4 (F3.trans F4)
            have r62 : Run 62 (l242 (jL n) (jL (g : Nat)) (some (.long (jL m))) none (some (.long (jL (4 * (m.natAbs : Int))))) none (some (.long (jL (b : Nat)))) none) [] h3 (0, 0) := by
              have htm2 := tmod_abs ((b : Int) * b - d) (4 * (m.natAbs : Int))
              have em : (jL ((b : Nat) : Int) * jL ((b : Nat) : Int) - hJ h3 1412 1) % jL (4 * (m.natAbs : Int)) = jL (((b : Int) * b - d).tmod (4 * (m.natAbs : Int))) := by
                rw [(hMw F3).1, jL_mul, jL_sub, jL_mod (by omega) (by omega) (by omega) (by omega)]
              refine hR 60 38 _ _ _ _ _ _ rfl ?_
              refine ⟨L3.K 1412 rfl, ?_, fun c => ?_, fun c => ?_⟩
              · show ¬ jL (4 * (m.natAbs : Int)) = jL 0
                rw [jL_eq (by omega) (by omega) (by omega) (by omega)]
                omega
              · have c' : (jL ((b : Nat) : Int) * jL ((b : Nat) : Int) - hJ h3 1412 1) % jL (4 * (m.natAbs : Int)) = jL 0 := c
                rw [em, jL_eq (by omega) (by omega) (by omega) (by omega)] at c'
                exact r80 (Int.dvd_of_tmod_eq_zero c')
              · have c' : ¬ (jL ((b : Nat) : Int) * jL ((b : Nat) : Int) - hJ h3 1412 1) % jL (4 * (m.natAbs : Int)) = jL 0 := c
                rw [em, jL_eq (by omega) (by omega) (by omega) (by omega)] at c'
                have hno : ¬ rtD (4 * m.natAbs) d b := fun z => c' (Int.tmod_eq_zero_of_dvd z)
                rw [if_neg (by rw [decide_eq_true_eq]; exact hno)] at hl3
                exact r89 l h3 hl3 f3 o3 F3
            refine hR 60 31 _ _ _ _ _ _ rfl ?_
            refine jcall (ct_196 G (x := m) (by omega) (by omega) h3) ?_
            refine ⟨fun c => ?_, fun c => r62⟩
            simp only [mj_lcm] at c
            rw [jL_mul, jL_le (by omega) (by omega) (by omega) (by omega)] at c
            omega
        have r44 : ∀ (x9 x10 : Option Value), Run 44 (l242 (jL n) (jL (g : Nat)) (some (.long (jL m))) none (some (.long (jL (4 * (m.natAbs : Int))))) none x9 x10) [] h' (0, 0) := by
          intro x9 x10
          refine hR 60 29 _ _ _ _ _ _ rfl ?_
          refine r47 (2 * m.natAbs) 0 l h' _ (by omega) ?_ hf' ho' F rfl
          rw [← hl, hmF, hSd]
        have r33 : ∀ (mL : Int64) (x7 x8 x9 x10 : Option Value), mL = jL m → Run 33 (l242 (jL n) (jL (g : Nat)) (some (.long mL)) none x7 x8 x9 x10) [] h' (0, 0) := by
          rintro mL x7 x8 x9 x10 rfl
          refine hR 60 24 _ _ _ _ _ _ rfl ?_
          refine jcall (ct_196 G (x := m) (by omega) (by omega) h') ?_
          have e4 : jL 4 * jL (m.natAbs : Int) = jL (4 * (m.natAbs : Int)) := jL_mul _ _
          have r := r44
          rw [← e4] at r
          exact r _ _
        intro x5 x6 x7 x8 x9 x10
        refine hR 60 18 _ _ _ _ _ _ rfl ?_
        refine ⟨?_, ?_⟩
        · rw [eg]
          show ¬ jL (q : Int) = jL 0
          rw [jL_eq (by omega) (by omega) (by omega) (by omega)]
          omega
        · exact r33 _ _ _ _ _ (by rw [eg, jL_div (by omega) (by omega) (by omega) (by omega), hm])
      have r13 : q ≤ n.natAbs → ∀ (x5 x6 x7 x8 x9 x10 : Option Value), Run 13 (l242 (jL n) (jL (g : Nat)) x5 x6 x7 x8 x9 x10) [] h' (0, 0) := by
        intro hqn x5 x6 x7 x8 x9 x10
        refine hR 60 9 _ _ _ _ _ _ rfl ?_
        refine ⟨?_, fun c => ?_, fun c => ?_⟩
        · rw [eg]
          show ¬ jL (q : Int) = jL 0
          rw [jL_eq (by omega) (by omega) (by omega) (by omega)]
          omega
        · have c' : jL n % (jL ((g : Nat) : Int) * jL ((g : Nat) : Int)) = jL 0 := c
          rw [eg, jL_mod (by omega) (by omega) (by omega) (by omega), jL_eq (by omega) (by omega) (by omega) (by omega)] at c'
          exact r26 hqn c' _ _ _ _ _ _
        · have c' : ¬ jL n % (jL ((g : Nat) : Int) * jL ((g : Nat) : Int)) = jL 0 := c
          rw [eg, jL_mod (by omega) (by omega) (by omega) (by omega), jL_eq (by omega) (by omega) (by omega) (by omega)] at c'
          rw [if_neg c'] at hSd
          refine r98 l h' _ _ _ _ _ _ hqn ?_ hf' ho' F
          rw [← hl, hmF, hSd]
          rfl
      refine hR 60 2 _ _ _ _ _ _ rfl ?_
      refine jcall (ct_196 G (x := n) (by omega) (by omega) h') ?_
      refine ⟨fun c => ⟨rfl, ?_, ho', F⟩, fun c => ?_⟩
      · simp only [mj_lcm] at c
        rw [eg, jL_lt (by omega) (by omega) (by omega) (by omega)] at c
        rw [← hl, hnil (by omega), List.append_nil]
        exact hf'
      · simp only [mj_lcm] at c
        rw [eg, jL_lt (by omega) (by omega) (by omega) (by omega)] at c
        exact r13 (by omega) _ _ _ _ _ _
  refine hR 60 0 _ _ _ _ _ _ rfl ?_
  exact r2 n.natAbs 1 [] h _ _ _ _ _ _ _ (by omega) (by decide) (by omega) hZ.symm hf ho (FrM.refl _ _ _ h) rfl
