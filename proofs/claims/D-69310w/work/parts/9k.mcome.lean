/-! the model: a solution comes back to the form at hand -/
abbrev zI : Type := Int × Int
def bkZ (k : Int) (z : zI) : zI := (-z.2, k * z.2 + z.1)
def onZ (k : Int) (z : zI) : zI := (k * z.1 + z.2, -z.1)
def pvR (r a : Nat) : Nat := if a = 0 then r - 1 else a - 1
def nxR (r a : Nat) : Nat := if a + 1 = r then 0 else a + 1
def bZ (M : Nat) (z : zI) : Prop := (-(pB M) < z.1 ∧ z.1 < pB M) ∧ -(pB M) < z.2 ∧ z.2 < pB M
def rbk (tn : Nat → Int) (r : Nat) : Nat → Nat → zI → zI
  | 0, _, z => z
  | m + 1, a, z => rbk tn r m (pvR r a) (bkZ (tn (pvR r a)) z)
def rbkB (M : Nat) (tn : Nat → Int) (r : Nat) : Nat → Nat → zI → Prop
  | 0, _, z => bZ M z
  | m + 1, a, z => bZ M z ∧ rbkB M tn r m (pvR r a) (bkZ (tn (pvR r a)) z)
def ron (tn : Nat → Int) (r : Nat) : Nat → Nat → zI → zI
  | 0, _, z => z
  | m + 1, a, z => ron tn r m (nxR r a) (onZ (tn a) z)
def ronB (M : Nat) (tn : Nat → Int) (r : Nat) : Nat → Nat → zI → Prop
  | 0, _, z => bZ M z
  | m + 1, a, z => bZ M z ∧ ronB M tn r m (nxR r a) (onZ (tn a) z)
def abk (an : Nat → Int) : Nat → zI → zI
  | 0, z => z
  | m + 1, z => abk an m (bkZ (an m) z)
def abkB (M : Nat) (an : Nat → Int) : Nat → zI → Prop
  | 0, z => bZ M z
  | m + 1, z => bZ M z ∧ abkB M an m (bkZ (an m) z)
/-- the steps that lie between -/
def lfR (r p : Nat) (j : Int) : Nat := (if 0 ≤ j then (p : Int) + j * r else -j * r - p).toNat
def rgZ (tn : Nat → Int) (r p : Nat) (j : Int) (z : zI) : zI := if 0 ≤ j then rbk tn r (lfR r p j) p z else ron tn r (lfR r p j) p z
def cmZ (tn an : Nat → Int) (r p a : Nat) (z : zI) (j : Int) : zI := trn (abk an a (rgZ tn r p j z))
def cmB (M : Nat) (tn an : Nat → Int) (r p a : Nat) (z : zI) (j : Int) : Prop := (0 ≤ j → rbkB M tn r (lfR r p j) p z) ∧ (¬ 0 ≤ j → ronB M tn r (lfR r p j) p z) ∧ abkB M an a (rgZ tn r p j z)
/-- the ring and the way of the model -/
def isMr (h : mj_H) (r a : Nat) (tn an : Nat → Int) : Prop := (hI h 1412 27 = jI r ∧ hI h 1412 24 = jI a) ∧ ((0 < r ∧ r ≤ 40960) ∧ a ≤ 200) ∧ (∀ i, i < r → hI h 1426 i = jI (tn i) ∧ (-2147483648 ≤ tn i ∧ tn i < 2147483648)) ∧ ∀ i, i < a → hJ h 1423 i = jL (an i) ∧ (-4294967296 ≤ an i ∧ an i ≤ 4294967296)
theorem isMr.M {I J S : Nat → Prop} {h h' : mj_H} (f : FrM I J S h h') {r a : Nat} {tn an : Nat → Int} (b : isMr h r a tn an) (h1 : ¬ I 27 ∧ ¬ I 24) (h2 : ¬ S 1426 ∧ ¬ S 1423) : isMr h' r a tn an := by
  obtain ⟨⟨b1, b2⟩, b3, b4, b5⟩ := b
  exact ⟨⟨(f.2.2.1 27 h1.1).trans b1, (f.2.2.1 24 h1.2).trans b2⟩, b3, fun i hi => ⟨(f.I (by decide) h2.1 _).trans (b4 i hi).1, (b4 i hi).2⟩, fun i hi => ⟨(f.J (by decide) h2.2 _).trans (b5 i hi).1, (b5 i hi).2⟩⟩
/-- the rows hold z, u, v -/
def isZ (h : mj_H) (n : Nat) (z : zI) (u v : Int) : Prop := isS h n (fun i => if i = 0 then z.1 else if i = 1 then z.2 else if i = 2 then u else v)
theorem isS.z {h : mj_H} {n : Nat} {V : Nat → Int} (a : isS h n V) {z : zI} {u v : Int} (h0 : V 0 = z.1) (h1 : V 1 = z.2) (h2 : V 2 = u) (h3 : V 3 = v) : isZ h n z u v := by
  refine a.congr (fun i hi => ?_)
  rcases (show i = 0 ∨ i = 1 ∨ i = 2 ∨ i = 3 by omega) with e | e | e | e <;> subst e <;> simp [h0, h1, h2, h3]
theorem room_of {M n : Nat} {z : zI} (hb : bZ M z) (hn : M + 4 ≤ n) : roomP n z.1 ∧ roomP n z.2 := by
  have := pB_mono (show M ≤ n - 4 by omega)
  obtain ⟨⟨a1, a2⟩, a3, a4⟩ := hb
  exact ⟨⟨by omega, by omega⟩, by omega, by omega⟩
/-- how many digits there are behind a step -/
theorem grow {M n m : Nat} {z : zI} (hb : bZ M z) (hn : n ≤ M + 8) (h : m = n ∨ (m = n + 4 ∧ ¬ (roomP n z.1 ∧ roomP n z.2))) : n ≤ m ∧ m ≤ M + 8 := by
  rcases h with h | ⟨h1, h2⟩
  · omega
  · rcases Nat.lt_or_ge n (M + 4) with q | q
    · omega
    · exact absurd (room_of hb q) h2
theorem ct_247' (G : mj_G) {h : mj_H} (L : isLam h) {n M : Nat} {z : zI} {u v : Int} (hs : isZ h n z u v) (hb : bZ M z) (hn : n ≤ M + 8) (hM : M ≤ 2180) {k : Int} (hk : -4294967296 ≤ k ∧ k ≤ 4294967296) : mj_Ct G (mj_mt 247) 0 0 [.ref 1412, .long (jL k)] h (fun o h' => o = .returned none ∧ (∃ m, isZ h' m (bkZ k z) u v ∧ stR m (bkZ k z).1 ∧ stR m (bkZ k z).2 ∧ n ≤ m ∧ m ≤ M + 8) ∧ FrM i48 noT s40 h h') := by
  refine mj_Ct_mono (ct_247 G L hs (by omega) hk) ?_
  rintro o h' ⟨rfl, ⟨m, s1, s2, s3, s4⟩, F⟩
  have g := grow hb hn s4
  exact ⟨rfl, ⟨m, s1.z rfl rfl rfl rfl, s2, s3, g.1, g.2⟩, F⟩
theorem ct_251' (G : mj_G) {h : mj_H} (L : isLam h) {n M : Nat} {z : zI} {u v : Int} (hs : isZ h n z u v) (hb : bZ M z) (hn : n ≤ M + 8) (hM : M ≤ 2180) {k : Int} (hk : -4294967296 ≤ k ∧ k ≤ 4294967296) : mj_Ct G (mj_mt 251) 0 0 [.ref 1412, .long (jL k)] h (fun o h' => o = .returned none ∧ (∃ m, isZ h' m (onZ k z) u v ∧ stR m (onZ k z).1 ∧ stR m (onZ k z).2 ∧ n ≤ m ∧ m ≤ M + 8) ∧ FrM i48 noT s40 h h') := by
  refine mj_Ct_mono (ct_251 G L hs (by omega) hk) ?_
  rintro o h' ⟨rfl, ⟨m, s1, s2, s3, s4⟩, F⟩
  have g := grow hb hn s4
  exact ⟨rfl, ⟨m, s1.z rfl rfl rfl rfl, s2, s3, g.1, g.2⟩, F⟩
abbrev l246 (x y : Int64) (p j : Int) (lf at' : Int32) (x9 : Option Value) : mj_Ls := [some (.ref 1412), some (.long x), none, some (.long y), none, some (.int (jI p)), some (.int (jI j)), some (.int lf), some (.int at'), x9]
/-- FormHouseModel.come(JJII)V; cuts at [6, 12, 41, 43, 47, 52, 57, 75, 77, 92, 104, 123, 125, 131, 139, 144, 155, 161] -/
def cl_246_3 : List mj_E := (132, false, .getfield 294, 3, 17, 24, 0, 0, 0) ::
  (135, false, .iconst 1, 1, 0, 0, 0, jI 1, 0) ::
  (136, false, .isub, 1, 0, 0, 0, 0, 0) ::
  (137, false, .istore 9, 2, 0, 0, 0, 0, 0) ::
  (139, true, .iload 9, 2, 0, 0, 0, 0, 0) ::
  (141, false, .ifCond .lt 20, 3, 86, 0, 0, 0, 0) ::
  (144, true, .aload_n 0, 1, 0, 0, 0, 0, 0) ::
  (145, false, .aload_n 0, 1, 0, 0, 0, 0, 0) ::
  (146, false, .getfield 61, 3, 17, 25, 2, 0, 0) ::
  (149, false, .iload 9, 2, 0, 0, 0, 0, 0) ::
  (151, false, .laload, 1, 0, 0, 0, 0, 0) ::
  (152, false, .invokevirtual 351, 3, 247, 1, 17, 0, 0) ::
  (155, true, .iinc 9 (-1), 3, 0, 0, 0, jI (-1), 0) ::
  (158, false, .goto (-19), 3, 76, 0, 0, 0, 0) ::
  (161, true, .aload_n 0, 1, 0, 0, 0, 0, 0) ::
  (162, false, .invokevirtual 357, 3, 252, 0, 17, 0, 0) ::
  (165, false, .return_, 1, 0, 0, 0, 0, 0) ::
  []
def cl_246_2 : List mj_E := (86, false, .invokevirtual 351, 3, 247, 1, 17, 0, 0) ::
  (89, false, .goto 36, 3, 69, 0, 0, 0, 0) ::
  (92, true, .aload_n 0, 1, 0, 0, 0, 0, 0) ::
  (93, false, .aload_n 0, 1, 0, 0, 0, 0, 0) ::
  (94, false, .getfield 70, 3, 17, 30, 2, 0, 0) ::
  (97, false, .iload 8, 2, 0, 0, 0, 0, 0) ::
  (99, false, .iaload, 1, 0, 0, 0, 0, 0) ::
  (100, false, .i2l, 1, 0, 0, 0, 0, 0) ::
  (101, false, .invokevirtual 354, 3, 251, 1, 17, 0, 0) ::
  (104, true, .iload 8, 2, 0, 0, 0, 0, 0) ::
  (106, false, .iconst 1, 1, 0, 0, 0, jI 1, 0) ::
  (107, false, .iadd, 1, 0, 0, 0, 0, 0) ::
  (108, false, .aload_n 0, 1, 0, 0, 0, 0, 0) ::
  (109, false, .getfield 300, 3, 17, 27, 0, 0, 0) ::
  (112, false, .if_icmp .ne 7, 3, 65, 0, 0, 0, 0) ::
  (115, false, .iconst 0, 1, 0, 0, 0, jI 0, 0) ::
  (116, false, .goto 7, 3, 68, 0, 0, 0, 0) ::
  (119, false, .iload 8, 2, 0, 0, 0, 0, 0) ::
  (121, false, .iconst 1, 1, 0, 0, 0, jI 1, 0) ::
  (122, false, .iadd, 1, 0, 0, 0, 0, 0) ::
  (123, true, .istore 8, 2, 0, 0, 0, 0, 0) ::
  (125, true, .iinc 7 (-1), 3, 0, 0, 0, jI (-1), 0) ::
  (128, false, .goto (-81), 3, 27, 0, 0, 0, 0) ::
  (131, true, .aload_n 0, 1, 0, 0, 0, 0, 0) ::
  cl_246_3
def cl_246_1 : List mj_E := (41, true, .istore 7, 2, 0, 0, 0, 0, 0) ::
  (43, true, .iload 5, 2, 0, 0, 0, 0, 0) ::
  (45, false, .istore 8, 2, 0, 0, 0, 0, 0) ::
  (47, true, .iload 7, 2, 0, 0, 0, 0, 0) ::
  (49, false, .ifCond .le 82, 3, 71, 0, 0, 0, 0) ::
  (52, true, .iload 6, 2, 0, 0, 0, 0, 0) ::
  (54, false, .ifCond .lt 38, 3, 50, 0, 0, 0, 0) ::
  (57, true, .iload 8, 2, 0, 0, 0, 0, 0) ::
  (59, false, .ifCond .ne 12, 3, 38, 0, 0, 0, 0) ::
  (62, false, .aload_n 0, 1, 0, 0, 0, 0, 0) ::
  (63, false, .getfield 300, 3, 17, 27, 0, 0, 0) ::
  (66, false, .iconst 1, 1, 0, 0, 0, jI 1, 0) ::
  (67, false, .isub, 1, 0, 0, 0, 0, 0) ::
  (68, false, .goto 7, 3, 41, 0, 0, 0, 0) ::
  (71, false, .iload 8, 2, 0, 0, 0, 0, 0) ::
  (73, false, .iconst 1, 1, 0, 0, 0, jI 1, 0) ::
  (74, false, .isub, 1, 0, 0, 0, 0, 0) ::
  (75, true, .istore 8, 2, 0, 0, 0, 0, 0) ::
  (77, true, .aload_n 0, 1, 0, 0, 0, 0, 0) ::
  (78, false, .aload_n 0, 1, 0, 0, 0, 0, 0) ::
  (79, false, .getfield 70, 3, 17, 30, 2, 0, 0) ::
  (82, false, .iload 8, 2, 0, 0, 0, 0, 0) ::
  (84, false, .iaload, 1, 0, 0, 0, 0, 0) ::
  (85, false, .i2l, 1, 0, 0, 0, 0, 0) ::
  cl_246_2
def cl_246_0 : List mj_E := (0, false, .aload_n 0, 1, 0, 0, 0, 0, 0) ::
  (1, false, .iconst 0, 1, 0, 0, 0, jI 0, 0) ::
  (2, false, .lload_n 1, 1, 0, 0, 0, 0, 0) ::
  (3, false, .invokevirtual 348, 3, 233, 2, 17, 0, 0) ::
  (6, true, .aload_n 0, 1, 0, 0, 0, 0, 0) ::
  (7, false, .iconst 1, 1, 0, 0, 0, jI 1, 0) ::
  (8, false, .lload_n 3, 1, 0, 0, 0, 0, 0) ::
  (9, false, .invokevirtual 348, 3, 233, 2, 17, 0, 0) ::
  (12, true, .iload 6, 2, 0, 0, 0, 0, 0) ::
  (14, false, .ifCond .lt 16, 3, 17, 0, 0, 0, 0) ::
  (17, false, .iload 5, 2, 0, 0, 0, 0, 0) ::
  (19, false, .iload 6, 2, 0, 0, 0, 0, 0) ::
  (21, false, .aload_n 0, 1, 0, 0, 0, 0, 0) ::
  (22, false, .getfield 300, 3, 17, 27, 0, 0, 0) ::
  (25, false, .imul, 1, 0, 0, 0, 0, 0) ::
  (26, false, .iadd, 1, 0, 0, 0, 0, 0) ::
  (27, false, .goto 14, 3, 24, 0, 0, 0, 0) ::
  (30, false, .iload 6, 2, 0, 0, 0, 0, 0) ::
  (32, false, .ineg, 1, 0, 0, 0, 0, 0) ::
  (33, false, .aload_n 0, 1, 0, 0, 0, 0, 0) ::
  (34, false, .getfield 300, 3, 17, 27, 0, 0, 0) ::
  (37, false, .imul, 1, 0, 0, 0, 0, 0) ::
  (38, false, .iload 5, 2, 0, 0, 0, 0, 0) ::
  (40, false, .isub, 1, 0, 0, 0, 0, 0) ::
  cl_246_1
def cd_246 : List mj_E := cl_246_0
def cx_246 : mj_X := (0, [], [])
theorem tb_246 : mj_tab (mj_mt 246) cx_246 cd_246 mj_mh [(0, 0, 0), (0, 0, 0), (0, 0, 0), (8080, 0, 0), (0, 0, 0), (0, 0, 0), (0, 0, 0), (8080, 0, 0), (0, 0, 0), (0, 0, 0), (0, 0, 0), (0, 0, 0), (0, 0, 0), (7126, 0, 0), (0, 0, 0), (0, 0, 0), (0, 0, 0), (0, 0, 0), (0, 0, 0), (0, 0, 0), (7126, 0, 0), (0, 0, 0), (0, 0, 0), (0, 0, 0), (0, 0, 0), (0, 0, 0), (0, 0, 0), (0, 0, 0), (0, 0, 0), (0, 0, 0), (0, 0, 0), (0, 0, 0), (0, 0, 0), (0, 0, 0), (7126, 0, 0), (0, 0, 0), (0, 0, 0), (0, 0, 0), (0, 0, 0), (0, 0, 0), (0, 0, 0), (0, 0, 0), (0, 0, 0), (0, 0, 0), (7129, 0, 0), (0, 0, 0), (0, 0, 0), (0, 0, 0), (8137, 0, 0), (0, 0, 0), (0, 0, 0), (0, 0, 0), (7129, 0, 0), (0, 0, 0), (0, 0, 0), (0, 0, 0), (8153, 0, 0), (0, 0, 0), (0, 0, 0), (0, 0, 0), (0, 0, 0), (7126, 0, 0), (0, 0, 0), (0, 0, 0), (0, 0, 0), (0, 0, 0), (0, 0, 0), (0, 0, 0), (0, 0, 0), (0, 0, 0), (0, 0, 0), (0, 0, 0), (7123, 0, 0), (0, 0, 0), (0, 0, 0), (0, 0, 0), (0, 0, 0), (0, 0, 0), (0, 0, 0), (0, 0, 0), (7124, 0, 0), (0, 0, 0), (0, 0, 0), (8137, 0, 0), (0, 0, 0), (0, 0, 0), (0, 0, 0), (8157, 0, 0), (0, 0, 0)] = true := mj_tab_f (by decide +kernel)
theorem ct_246 (G : mj_G) {h : mj_H} (L : isLam h) {r a p M n : Nat} {tn an : Nat → Int} (hr : isMr h r a tn an) (hp : p < r) {z : zI} {u v : Int} {z0 : zI} (hs : isZ h n z0 u v) (hn : n ≤ M + 8) (hM : M ≤ 2180) (hz : (-9223372036854775808 < z.1 ∧ z.1 < 9223372036854775808) ∧ -9223372036854775808 < z.2 ∧ z.2 < 9223372036854775808) {j : Int} (hj : -1000 ≤ j ∧ j ≤ 1000) (hb : cmB M tn an r p a z j) : mj_Ct G (mj_mt 246) 0 0 [.ref 1412, .long (jL z.1), .long (jL z.2), .int (jI p), .int (jI j)] h (fun o h' => o = .returned none ∧ (∃ m, isZ h' m (cmZ tn an r p a z j) u v ∧ stR m (cmZ tn an r p a z j).1 ∧ stR m (cmZ tn an r p a z j).2 ∧ n ≤ m ∧ m ≤ M + 8) ∧ FrM i48 noT s40 h h') := by
  obtain ⟨⟨hr1, hr2⟩, ⟨⟨hr3, hr4⟩, hr5⟩, hr6, hr7⟩ := id hr
  have hjr : -(1000 * (r : Int)) ≤ j * r ∧ j * r ≤ 1000 * r := by
    constructor
    · have : -1000 * (r : Int) ≤ j * r := Int.mul_le_mul_of_nonneg_right hj.1 (by omega)
      omega
    · exact Int.mul_le_mul_of_nonneg_right hj.2 (by omega)
  have hjn : ¬ 0 ≤ j → (r : Int) ≤ -j * r := by
    intro q
    have : 1 * (r : Int) ≤ -j * r := Int.mul_le_mul_of_nonneg_right (by omega) (by omega)
    omega
  have hneg : -j * (r : Int) = -(j * r) := Int.neg_mul _ _
  have hlf : ((lfR r p j : Nat) : Int) = if 0 ≤ j then (p : Int) + j * r else -j * r - p := by
    unfold lfR
    by_cases q : 0 ≤ j
    · rw [if_pos q]
      have : 0 ≤ j * (r : Int) := Int.mul_nonneg q (by omega)
      omega
    · rw [if_neg q]
      have := hjn q
      omega
  have hlb : lfR r p j ≤ 50000000 := by
    by_cases q : 0 ≤ j
    · rw [if_pos q] at hlf
      omega
    · rw [if_neg q] at hlf
      omega
  have hrM : ∀ {h' : mj_H}, FrM i48 noT s40 h h' → isMr h' r a tn an := fun F => hr.M F (by omega) (by omega)
  refine mj_Ct_of mj_ok tb_246 rfl rfl (Nat.le_of_ble_eq_true rfl) (fun Run hR => ?_)
  -- what must hold of rows
  let K : mj_H → Nat → zI → Prop := fun h' m w => isZ h' m w u v ∧ stR m w.1 ∧ stR m w.2 ∧ (n ≤ m ∧ m ≤ M + 8) ∧ FrM i48 noT s40 h h'
  have r161 : ∀ (h' : mj_H) (m : Nat) (w : zI) (lf at' : Int32) (x9 : Option Value), K h' m w → trn w = cmZ tn an r p a z j → Run 161 (l246 (jL z.1) (jL z.2) p j lf at' x9) [] h' (0, 0) := by
    rintro h' m w lf at' x9 ⟨k1, k2, k3, k4, F⟩ e
    have L' := F.lay L
    refine hR 60 86 _ _ _ _ _ _ rfl ?_
    refine ⟨L'.K 1412 rfl, jcallP (ct_252 G L' k1 k2 k3) ?_⟩
    rintro o h2 ⟨rfl, s2, F2⟩
    have s3 : isZ h2 m (trn w) u v := s2.z rfl rfl rfl rfl
    have t1 : stR m (trn w).1 ∧ stR m (trn w).2 := by
      unfold trn
      split
      · exact ⟨k2, k3⟩
      · exact ⟨k2.neg, k3.neg⟩
    rw [e] at s3 t1
    exact ⟨rfl, ⟨m, s3, t1.1, t1.2, k4.1, k4.2⟩, F.trans F2⟩
  have r139 : ∀ (k : Nat) (h' : mj_H) (m : Nat) (w : zI) (lf at' kI : Int32), K h' m w → k ≤ a → abkB M an k w → trn (abk an k w) = cmZ tn an r p a z j → kI = jI ((k : Int) - 1) → Run 139 (l246 (jL z.1) (jL z.2) p j lf at' (some (.int kI))) [] h' (0, 0) := by
    intro k
    induction k with
    | zero =>
      rintro h' m w lf at' kI hK hka hB e rfl
      refine hR 60 76 _ _ _ _ _ _ rfl ?_
      refine ⟨fun c => r161 h' m w _ _ _ hK e, fun c => ?_⟩
      simp (disch := omega) only [mj_lcm, jI_lt, jI_le, jI_eq, jL_lt, jL_le, jL_eq, jI_lt0, jI_0le, jI_0lt, jI_le0, jI_eq0, jL_eq0, jI_L, jI_add, jI_sub, jI_mul, jI_neg, jL_add, jL_sub, jL_mul, jL_neg, jL_I, jI_div, jI_mod, jL_div, jL_mod] at c
      omega
    | succ k ih =>
      rintro h' m w lf at' kI hK hka hB e rfl
      have hK' := hK
      obtain ⟨k1, k2, k3, k4, F⟩ := hK'
      have L' := F.lay L
      have ek : jI (((k + 1 : Nat) : Int) - 1) = jI (k : Int) := by
        congr 1
        omega
      have hr' := hrM F
      obtain ⟨t1, t2⟩ := hr'.2.2.2 k (by omega)
      have nat : (jI (k : Int)).toNatClampNeg = k := by rw [jI_nat (by omega) (by omega), Int.toNat_natCast]
      have vin : vp_in (jI (k : Int)) (hN h' 1423) := by
        rw [show hN h' 1423 = 200 from L'.N 1422 rfl]
        exact jI_in (by omega) (by omega) (by omega)
      have r155 : ∀ (h2 : mj_H) (m2 : Nat), K h2 m2 (bkZ (an k) w) → Run 155 (l246 (jL z.1) (jL z.2) p j lf at' (some (.int (jI k)))) [] h2 (0, 0) := by
        intro h2 m2 hK2
        refine hR 60 84 _ _ _ _ _ _ rfl ?_
        refine ih h2 m2 _ _ _ _ hK2 (by omega) hB.2 e ?_
        rw [jI_add]
        rfl
      have r144 : Run 144 (l246 (jL z.1) (jL z.2) p j lf at' (some (.int (jI k)))) [] h' (0, 0) := by
        have c := ct_247' G L' k1 hB.1 k4.2 hM t2
        rw [← t1, ← nat] at c
        refine hR 60 78 _ _ _ _ _ _ rfl ?_
        refine ⟨L'.K 1412 rfl, _, L'.R 1412 25 _ rfl, L'.K 1423 rfl, vin, L'.K 1412 rfl, jcallP c ?_⟩
        rintro o h2 ⟨rfl, ⟨m2, z2, s2, s3, g1, g2⟩, F2⟩
        rw [nat] at z2 s2 s3
        exact r155 h2 m2 ⟨z2, s2, s3, ⟨by omega, g2⟩, F.trans F2⟩
      rw [ek]
      refine hR 60 76 _ _ _ _ _ _ rfl ?_
      refine ⟨fun c => ?_, fun c => r144⟩
      simp (disch := omega) only [mj_lcm, jI_lt, jI_le, jI_eq, jL_lt, jL_le, jL_eq, jI_lt0, jI_0le, jI_0lt, jI_le0, jI_eq0, jL_eq0, jI_L, jI_add, jI_sub, jI_mul, jI_neg, jL_add, jL_sub, jL_mul, jL_neg, jL_I, jI_div, jI_mod, jL_div, jL_mod] at c
      omega
  have r131 : ∀ (h' : mj_H) (m : Nat) (w : zI) (lf at' : Int32) (x9 : Option Value), K h' m w → w = rgZ tn r p j z → Run 131 (l246 (jL z.1) (jL z.2) p j lf at' x9) [] h' (0, 0) := by
    rintro h' m w lf at' x9 hK rfl
    have hK' := hK
    obtain ⟨k1, k2, k3, k4, F⟩ := hK'
    have L' := F.lay L
    refine hR 60 71 _ _ _ _ _ _ rfl ?_
    refine ⟨L'.K 1412 rfl, ?_⟩
    rw [(hrM F).1.2]
    refine r139 a h' m _ _ _ _ hK (Nat.le_refl _) hb.2.2 rfl ?_
    rw [jI_sub]
  have r47 : ∀ (l : Nat) (h' : mj_H) (m at' : Nat) (w : zI) (lI aI : Int32) (x9 : Option Value), K h' m w → at' < r → l ≤ 50000000 → (0 ≤ j → rbkB M tn r l at' w ∧ rbk tn r l at' w = rgZ tn r p j z) → (¬ 0 ≤ j → ronB M tn r l at' w ∧ ron tn r l at' w = rgZ tn r p j z) → lI = jI l → aI = jI at' → Run 47 (l246 (jL z.1) (jL z.2) p j lI aI x9) [] h' (0, 0) := by
    intro l
    induction l with
    | zero =>
      rintro h' m at' w lI aI x9 hK hat hl hp1 hp2 rfl rfl
      refine hR 60 27 _ _ _ _ _ _ rfl ?_
      refine ⟨fun c => r131 h' m w _ _ _ hK ?_, fun c => absurd (show jI ((0 : Nat) : Int) ≤ 0 by decide) c⟩
      by_cases q : 0 ≤ j
      · exact (hp1 q).2
      · exact (hp2 q).2
    | succ l ih =>
      rintro h' m at' w lI aI x9 hK hat hl hp1 hp2 rfl rfl
      have hK' := hK
      obtain ⟨k1, k2, k3, k4, F⟩ := hK'
      have L' := F.lay L
      have hr' := hrM F
      have r125 : ∀ (h2 : mj_H) (m2 at2 : Nat) (w2 : zI) (aI : Int32), K h2 m2 w2 → at2 < r → (0 ≤ j → rbkB M tn r l at2 w2 ∧ rbk tn r l at2 w2 = rgZ tn r p j z) → (¬ 0 ≤ j → ronB M tn r l at2 w2 ∧ ron tn r l at2 w2 = rgZ tn r p j z) → aI = jI at2 → Run 125 (l246 (jL z.1) (jL z.2) p j (jI (l + 1 : Nat)) aI x9) [] h2 (0, 0) := by
        intro h2 m2 at2 w2 aI hK2 hat2 q1 q2 e
        refine hR 60 69 _ _ _ _ _ _ rfl ?_
        refine ih h2 m2 at2 w2 _ _ _ hK2 hat2 (by omega) q1 q2 ?_ e
        rw [jI_add]
        congr 1
        omega
      have vin : ∀ {k : Nat}, k < r → vp_in (jI (k : Int)) (hN h' 1426) := by
        intro k hk
        rw [show hN h' 1426 = 40960 from L'.N 1425 rfl]
        exact jI_in (by omega) (by omega) (by omega)
      have nat : ∀ {k : Nat}, k < r → (jI (k : Int)).toNatClampNeg = k := by
        intro k hk
        rw [jI_nat (by omega) (by omega), Int.toNat_natCast]
      have r52 : Run 52 (l246 (jL z.1) (jL z.2) p j (jI (l + 1 : Nat)) (jI at') x9) [] h' (0, 0) := by
        by_cases q : 0 ≤ j
        · obtain ⟨⟨b1, b2⟩, b3⟩ := hp1 q
          have hpl : pvR r at' < r := by
            unfold pvR
            split <;> omega
          obtain ⟨t1, t2⟩ := hr'.2.2.1 (pvR r at') hpl
          have r77 : ∀ aI : Int32, aI = jI (pvR r at') → Run 77 (l246 (jL z.1) (jL z.2) p j (jI (l + 1 : Nat)) aI x9) [] h' (0, 0) := by
            rintro aI rfl
            have e1 : (hI h' 1426 (jI (pvR r at' : Int)).toNatClampNeg).toInt64 = jL (tn (pvR r at')) := by rw [nat hpl, t1, jI_L (by omega) (by omega)]
            have c := ct_247' G L' k1 b1 k4.2 hM (k := tn (pvR r at')) (by omega)
            rw [← e1] at c
            refine hR 60 42 _ _ _ _ _ _ rfl ?_
            refine ⟨L'.K 1412 rfl, _, L'.R 1412 30 _ rfl, Or.inl (L'.K 1426 rfl), vin hpl, L'.K 1412 rfl, jcallP c ?_⟩
            rintro o h2 ⟨rfl, ⟨m2, z2, s2, s3, g1, g2⟩, F2⟩
            exact r125 h2 m2 (pvR r at') (bkZ (tn (pvR r at')) w) _ ⟨z2, s2, s3, ⟨by omega, g2⟩, F.trans F2⟩ hpl (fun _ => ⟨b2, b3⟩) (fun n => absurd q n) rfl
          have r75 : ∀ aI a8 : Int32, aI = jI (pvR r at') → Run 75 (l246 (jL z.1) (jL z.2) p j (jI (l + 1 : Nat)) a8 x9) [.int aI] h' (0, 0) := by
            intro aI a8 e
            refine hR 60 41 _ _ _ _ _ _ rfl ?_
            exact r77 _ e
          have r57 : Run 57 (l246 (jL z.1) (jL z.2) p j (jI (l + 1 : Nat)) (jI at') x9) [] h' (0, 0) := by
            refine hR 60 31 _ _ _ _ _ _ rfl ?_
            refine ⟨fun c => ⟨L'.K 1412 rfl, ?_⟩, fun c => ?_⟩
            · simp (disch := omega) only [mj_lcm, jI_lt, jI_le, jI_eq, jL_lt, jL_le, jL_eq, jI_lt0, jI_0le, jI_0lt, jI_le0, jI_eq0, jL_eq0, jI_L, jI_add, jI_sub, jI_mul, jI_neg, jL_add, jL_sub, jL_mul, jL_neg, jL_I, jI_div, jI_mod, jL_div, jL_mod] at c
              rw [hr'.1.1]
              refine r75 _ _ ?_
              unfold pvR
              rw [if_pos (by omega), jI_sub]
              congr 1
              omega
            · simp (disch := omega) only [mj_lcm, jI_lt, jI_le, jI_eq, jL_lt, jL_le, jL_eq, jI_lt0, jI_0le, jI_0lt, jI_le0, jI_eq0, jL_eq0, jI_L, jI_add, jI_sub, jI_mul, jI_neg, jL_add, jL_sub, jL_mul, jL_neg, jL_I, jI_div, jI_mod, jL_div, jL_mod] at c
              refine r75 _ _ ?_
              unfold pvR
              rw [if_neg (by omega), jI_sub]
              congr 1
              omega
          refine hR 60 29 _ _ _ _ _ _ rfl ?_
          refine ⟨fun c => ?_, fun c => r57⟩
          simp (disch := omega) only [mj_lcm, jI_lt, jI_le, jI_eq, jL_lt, jL_le, jL_eq, jI_lt0, jI_0le, jI_0lt, jI_le0, jI_eq0, jL_eq0, jI_L, jI_add, jI_sub, jI_mul, jI_neg, jL_add, jL_sub, jL_mul, jL_neg, jL_I, jI_div, jI_mod, jL_div, jL_mod] at c
          omega
        · obtain ⟨⟨b1, b2⟩, b3⟩ := hp2 q
          have hnl : nxR r at' < r := by
            unfold nxR
            split <;> omega
          obtain ⟨t1, t2⟩ := hr'.2.2.1 at' hat
          have r123 : ∀ (h2 : mj_H) (m2 : Nat) (aI a8 : Int32), K h2 m2 (onZ (tn at') w) → aI = jI (nxR r at') → Run 123 (l246 (jL z.1) (jL z.2) p j (jI (l + 1 : Nat)) a8 x9) [.int aI] h2 (0, 0) := by
            intro h2 m2 aI a8 hK2 e
            refine hR 60 68 _ _ _ _ _ _ rfl ?_
            exact r125 h2 m2 (nxR r at') (onZ (tn at') w) _ hK2 hnl (fun n => absurd n q) (fun _ => ⟨b2, b3⟩) e
          have r104 : ∀ (h2 : mj_H) (m2 : Nat), K h2 m2 (onZ (tn at') w) → Run 104 (l246 (jL z.1) (jL z.2) p j (jI (l + 1 : Nat)) (jI at') x9) [] h2 (0, 0) := by
            intro h2 m2 hK2
            have hr2' := hrM hK2.2.2.2.2
            refine hR 60 57 _ _ _ _ _ _ rfl ?_
            refine ⟨(hK2.2.2.2.2.lay L).K 1412 rfl, fun c => ?_, fun c => ?_⟩
            · rw [hr2'.1.1, jI_add, jI_eq (by omega) (by omega) (by omega) (by omega)] at c
              refine r123 h2 m2 _ _ hK2 ?_
              unfold nxR
              rw [if_pos (by omega)]
              rfl
            · rw [hr2'.1.1, jI_add, jI_eq (by omega) (by omega) (by omega) (by omega)] at c
              refine r123 h2 m2 _ _ hK2 ?_
              unfold nxR
              rw [if_neg (by omega), jI_add]
              rfl
          have r92 : Run 92 (l246 (jL z.1) (jL z.2) p j (jI (l + 1 : Nat)) (jI at') x9) [] h' (0, 0) := by
            have e1 : (hI h' 1426 (jI (at' : Int)).toNatClampNeg).toInt64 = jL (tn at') := by rw [nat hat, t1, jI_L (by omega) (by omega)]
            have c := ct_251' G L' k1 b1 k4.2 hM (k := tn at') (by omega)
            rw [← e1] at c
            refine hR 60 50 _ _ _ _ _ _ rfl ?_
            refine ⟨L'.K 1412 rfl, _, L'.R 1412 30 _ rfl, Or.inl (L'.K 1426 rfl), vin hat, L'.K 1412 rfl, jcallP c ?_⟩
            rintro o h2 ⟨rfl, ⟨m2, z2, s2, s3, g1, g2⟩, F2⟩
            exact r104 h2 m2 ⟨z2, s2, s3, ⟨by omega, g2⟩, F.trans F2⟩
          refine hR 60 29 _ _ _ _ _ _ rfl ?_
          refine ⟨fun c => r92, fun c => ?_⟩
          simp (disch := omega) only [mj_lcm, jI_lt, jI_le, jI_eq, jL_lt, jL_le, jL_eq, jI_lt0, jI_0le, jI_0lt, jI_le0, jI_eq0, jL_eq0, jI_L, jI_add, jI_sub, jI_mul, jI_neg, jL_add, jL_sub, jL_mul, jL_neg, jL_I, jI_div, jI_mod, jL_div, jL_mod] at c
          omega
      refine hR 60 27 _ _ _ _ _ _ rfl ?_
      refine ⟨fun c => ?_, fun c => r52⟩
      simp (disch := omega) only [mj_lcm, jI_lt, jI_le, jI_eq, jL_lt, jL_le, jL_eq, jI_lt0, jI_0le, jI_0lt, jI_le0, jI_eq0, jL_eq0, jI_L, jI_add, jI_sub, jI_mul, jI_neg, jL_add, jL_sub, jL_mul, jL_neg, jL_I, jI_div, jI_mod, jL_div, jL_mod] at c
      omega
  have r43 : ∀ (h' : mj_H) (lI : Int32) (x8 x9 : Option Value), K h' n z → lI = jI (lfR r p j) → Run 43 [some (.ref 1412), some (.long (jL z.1)), none, some (.long (jL z.2)), none, some (.int (jI p)), some (.int (jI j)), some (.int lI), x8, x9] [] h' (0, 0) := by
    intro h' lI x8 x9 hK e
    refine hR 60 25 _ _ _ _ _ _ rfl ?_
    refine r47 (lfR r p j) h' n p z _ _ _ hK hp hlb (fun q => ⟨hb.1 q, ?_⟩) (fun q => ⟨hb.2.1 q, ?_⟩) e rfl
    · unfold rgZ
      rw [if_pos q]
    · unfold rgZ
      rw [if_neg q]
  have r41 : ∀ (h' : mj_H) (lI : Int32) (x7 x8 x9 : Option Value), K h' n z → lI = jI (lfR r p j) → Run 41 [some (.ref 1412), some (.long (jL z.1)), none, some (.long (jL z.2)), none, some (.int (jI p)), some (.int (jI j)), x7, x8, x9] [.int lI] h' (0, 0) := by
    intro h' lI x7 x8 x9 hK e
    refine hR 60 24 _ _ _ _ _ _ rfl ?_
    exact r43 h' _ _ _ hK e
  have r12 : ∀ (h' : mj_H) (x7 x8 x9 : Option Value), K h' n z → Run 12 [some (.ref 1412), some (.long (jL z.1)), none, some (.long (jL z.2)), none, some (.int (jI p)), some (.int (jI j)), x7, x8, x9] [] h' (0, 0) := by
    intro h' x7 x8 x9 hK
    have hr' := hrM hK.2.2.2.2
    have k := (hK.2.2.2.2.lay L).K 1412 rfl
    refine hR 60 8 _ _ _ _ _ _ rfl ?_
    refine ⟨fun c => ⟨k, ?_⟩, fun c => ⟨k, ?_⟩⟩
    · simp (disch := omega) only [mj_lcm, jI_lt, jI_le, jI_eq, jL_lt, jL_le, jL_eq, jI_lt0, jI_0le, jI_0lt, jI_le0, jI_eq0, jL_eq0, jI_L, jI_add, jI_sub, jI_mul, jI_neg, jL_add, jL_sub, jL_mul, jL_neg, jL_I, jI_div, jI_mod, jL_div, jL_mod] at c
      refine r41 h' _ _ _ _ hK ?_
      rw [hr'.1.1, hlf, if_neg (by omega), jI_neg, jI_mul, jI_sub]
    · simp (disch := omega) only [mj_lcm, jI_lt, jI_le, jI_eq, jL_lt, jL_le, jL_eq, jI_lt0, jI_0le, jI_0lt, jI_le0, jI_eq0, jL_eq0, jI_L, jI_add, jI_sub, jI_mul, jI_neg, jL_add, jL_sub, jL_mul, jL_neg, jL_I, jI_div, jI_mod, jL_div, jL_mod] at c
      refine r41 h' _ _ _ _ hK ?_
      rw [hr'.1.1, hlf, if_pos (by omega), jI_mul, jI_add]
  have n8 := hs.1.2.1
  have sm : ∀ {x : Int}, -9223372036854775808 < x → x < 9223372036854775808 → stR n x := by
    intro x x1 x2
    have h1 : pB 4 ≤ pB (n - 1) := pB_mono (by omega)
    have h2 : pB 4 = 18446744073709551616 := by decide
    rw [h2] at h1
    constructor <;> omega
  have r6 : ∀ (h' : mj_H) (x7 x8 x9 : Option Value), isZ h' n (z.1, z0.2) u v → FrM i48 noT s40 h h' → Run 6 [some (.ref 1412), some (.long (jL z.1)), none, some (.long (jL z.2)), none, some (.int (jI p)), some (.int (jI j)), x7, x8, x9] [] h' (0, 0) := by
    intro h' x7 x8 x9 s' F
    have L' := F.lay L
    refine hR 60 4 _ _ _ _ _ _ rfl ?_
    refine ⟨L'.K 1412 rfl, jcallP (ct_233 G L'.Md (i := 1) (by omega) s'.1 (v := z.2) (by omega) (by omega)) ?_⟩
    rintro o h2 ⟨rfl, d2, F2⟩
    exact r12 h2 _ _ _ ⟨(s'.put F2 d2 (sm hz.2.1 hz.2.2).rg).z rfl rfl rfl rfl, sm hz.1.1 hz.1.2, sm hz.2.1 hz.2.2, ⟨Nat.le_refl _, hn⟩, F.trans F2.toM⟩
  refine hR 60 0 _ _ _ _ _ _ rfl ?_
  refine ⟨L.K 1412 rfl, jcallP (ct_233 G L.Md (i := 0) (by omega) hs.1 (v := z.1) (by omega) (by omega)) ?_⟩
  rintro o h2 ⟨rfl, d2, F2⟩
  exact r6 h2 _ _ _ ((hs.put F2 d2 (sm hz.1.1 hz.1.2).rg).z rfl rfl rfl rfl) F2.toM
