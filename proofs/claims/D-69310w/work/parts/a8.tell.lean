/-! the house: families are told -/
theorem lyAt_p {a : Nat} (h1 : 132 ≤ a) (h2 : a < 1412) : lyAt a = lyP a := by
  have e1 : Nat.blt a 132 = false := Bool.eq_false_iff.2 (fun z => by rw [Nat.blt_eq] at z; omega)
  have e2 : Nat.blt a 1412 = true := by
    rw [Nat.blt_eq]
    exact h2
  unfold lyAt
  rw [e1, e2]
theorem lyRf_p {a k : Nat} (h1 : 132 ≤ a) (h2 : a < 1412) : lyRf a k = lkp (lyP a).2.2 k := by
  have e1 : Nat.beq a 127 = false := Bool.eq_false_iff.2 (fun z => by have := Nat.eq_of_beq_eq_true z; omega)
  unfold lyRf
  rw [e1, lyAt_p h1 h2]
theorem lyRc_p {a k : Nat} (h2 : a < 1412) : lyRc a k = lyRf a k := by
  have e2 : Nat.blt a 1412 = true := by
    rw [Nat.blt_eq]
    exact h2
  unfold lyRc
  rw [e2]
theorem lyP_at (j i : Nat) (hi : i < 5) : lyP (132 + 5 * j + i) = match i with
    | 0 => (26, 0, [(0, 132 + 5 * j + i + 1), (1, 132 + 5 * j + i + 3)])
    | 1 => (15, 0, [(0, 132 + 5 * j + i + 1)])
    | 2 => (1, 1024, [])
    | 3 => (15, 0, [(0, 132 + 5 * j + i + 1)])
    | _ => (1, 1024, []) := by
  unfold lyP
  rw [show (132 + 5 * j + i - 132) % 5 = i by omega]
  rcases (show i = 0 ∨ i = 1 ∨ i = 2 ∨ i = 3 ∨ i = 4 by omega) with e | e | e | e | e <;> subst e <;> rfl
theorem isLay.Q0 {h : mj_H} (L : isLay h) {j : Nat} (hj : j < 256) : isQ0 h (132 + 5 * j) := by
  have kd : ∀ i, i < 5 → hK h (132 + 5 * j + i) = (lyP (132 + 5 * j + i)).1 := fun i hi => by
    rw [(L.1 (132 + 5 * j + i) (by omega)).1, lyAt_p (by omega) (by omega)]
  have ln : ∀ i, i < 5 → hN h (132 + 5 * j + i) = (lyP (132 + 5 * j + i)).2.1 := fun i hi => by
    rcases (L.1 (132 + 5 * j + i) (by omega)).2 with z | z
    · omega
    · rw [z, lyAt_p (by omega) (by omega)]
  have rf : ∀ i k q, i < 5 → lkp (lyP (132 + 5 * j + i)).2.2 k = some q → hR h (132 + 5 * j + i) k = some q := fun i k q hi e => L.2 _ k q (by rw [lyRc_p (by omega), lyRf_p (by omega) (by omega)]; exact e)
  have k0 := kd 0 (by omega)
  have k1 := kd 1 (by omega)
  have k2 := kd 2 (by omega)
  have k3 := kd 3 (by omega)
  have k4 := kd 4 (by omega)
  have n2 := ln 2 (by omega)
  have n4 := ln 4 (by omega)
  have r0 := rf 0 0 (132 + 5 * j + 1) (by omega) (by rw [lyP_at j 0 (by omega)]; rfl)
  have r01 := rf 0 1 (132 + 5 * j + 3) (by omega) (by rw [lyP_at j 0 (by omega)]; rfl)
  have r1 := rf 1 0 (132 + 5 * j + 2) (by omega) (by rw [lyP_at j 1 (by omega)]; rfl)
  have r3 := rf 3 0 (132 + 5 * j + 4) (by omega) (by rw [lyP_at j 3 (by omega)]; rfl)
  rw [lyP_at j 0 (by omega)] at k0
  rw [lyP_at j 1 (by omega)] at k1
  rw [lyP_at j 2 (by omega)] at k2 n2
  rw [lyP_at j 3 (by omega)] at k3
  rw [lyP_at j 4 (by omega)] at k4 n4
  exact ⟨k0, r0, r01, ⟨k1, r1, k2, n2, by omega⟩, ⟨k3, r3, k4, n4, by omega⟩⟩
theorem isQ.F {S T : Nat → Prop} {h h' : mj_H} (f : Fr S T h h') {q : Nat} {z : xI} (a : isQ h q z) (hs : ∀ x, q < x → x ≤ q + 4 → ¬ S x) (ht : ∀ x, q ≤ x → x ≤ q + 4 → ¬ T x) : isQ h' q z := by
  obtain ⟨⟨a1, a2, a3, a4, a5⟩, wx, wy⟩ := a
  have w1 := wx.F f (hs _ (by omega) (by omega)) (hs _ (by omega) (by omega)) (ht _ (by omega) (by omega))
  have w2 := wy.F f (hs _ (by omega) (by omega)) (hs _ (by omega) (by omega)) (ht _ (by omega) (by omega))
  exact ⟨⟨(f.K _).trans a1, (f.R (ht _ (by omega) (by omega)) _).trans a2, (f.R (ht _ (by omega) (by omega)) _).trans a3, w1.1, w2.1⟩, w1, w2⟩
/-- how many of the first k trials are met -/
def mCt (M : Nat → Bool) : Nat → Nat
  | 0 => 0
  | k + 1 => mCt M k + (if M k = true then 1 else 0)
theorem mCt_le (M : Nat → Bool) {i : Nat} : ∀ {k : Nat}, i ≤ k → mCt M i ≤ mCt M k
  | 0, h => by rw [show i = 0 by omega]; exact Nat.le_refl _
  | k + 1, h => by
    by_cases e : i = k + 1
    · rw [e]
      exact Nat.le_refl _
    · have := mCt_le M (i := i) (k := k) (by omega)
      show _ ≤ mCt M k + _
      omega
theorem mCt_lt {M : Nat → Bool} {i k : Nat} (h : i < k) (hi : M i = true) : mCt M i < mCt M k := by
  have h1 := mCt_le M (i := i + 1) (k := k) h
  have h2 : mCt M (i + 1) = mCt M i + (if M i = true then 1 else 0) := rfl
  rw [if_pos hi] at h2
  omega
/-- the solution is small enough -/
def tlB (m : mxI) (t : Tr) : Prop := (m.1 * (t.2.2.2.2.1 * t.1)).natAbs + (m.2.1 * (t.2.2.2.2.2 * t.1)).natAbs < 4294967296 ^ 1024 ∧ (m.2.2.1 * (t.2.2.2.2.1 * t.1)).natAbs + (m.2.2.2 * (t.2.2.2.2.2 * t.1)).natAbs < 4294967296 ^ 1024
/-- what is to be known of one family -/
def tlP (m : mxI) (va vb vc vd : Int) (t : Tr) (z : xI) : Prop := ((-9223372036854775808 < t.2.2.2.2.1 * t.1 ∧ t.2.2.2.2.1 * t.1 < 9223372036854775808) ∧ (-9223372036854775808 < t.2.2.2.2.2 * t.1 ∧ t.2.2.2.2.2 * t.1 < 9223372036854775808) ∧ tlB m t) ∧ ∃ n n', mvT va vb vc vd n (trn (m.1 * (t.2.2.2.2.1 * t.1) + m.2.1 * (t.2.2.2.2.2 * t.1), m.2.2.1 * (t.2.2.2.2.1 * t.1) + m.2.2.2 * (t.2.2.2.2.2 * t.1))) ∧ mvT vd (-vb) (-vc) va n' (itQ va vb vc vd n (trn (m.1 * (t.2.2.2.2.1 * t.1) + m.2.1 * (t.2.2.2.2.2 * t.1), m.2.2.1 * (t.2.2.2.2.1 * t.1) + m.2.2.2 * (t.2.2.2.2.2 * t.1)))) ∧ z = itQ vd (-vb) (-vc) va n' (itQ va vb vc vd n (trn (m.1 * (t.2.2.2.2.1 * t.1) + m.2.1 * (t.2.2.2.2.2 * t.1), m.2.2.1 * (t.2.2.2.2.1 * t.1) + m.2.2.2 * (t.2.2.2.2.2 * t.1))))
/-- a family is told -/
def tdP (M : Nat → Bool) (zf : Nat → xI) (h : mj_H) (k : Nat) (t : Tr) : Prop := hI h 128 (mCt M k) = jI t.1 ∧ hI h 129 (mCt M k) = jI t.2.1 ∧ isQ h (132 + 5 * mCt M k) (zf k)
abbrev sTd (a : Nat) : Prop := a = 3 ∨ a = 4 ∨ a = 36 ∨ a = 38 ∨ (86 ≤ a ∧ a ≤ 96) ∨ a = 128 ∨ a = 129 ∨ (132 ≤ a ∧ a ≤ 1411)
abbrev l159 (i k : Int32) : mj_Ls := [some (.ref 1), some (.int i), some (.int k)]
/-- FormHouse.tell()V; cuts at [2, 4, 15, 30, 45, 60, 112, 139] -/
def cl_159_3 : List mj_E := (130, false, .getfield 24, 3, 0, 0, 2, 0, 0) ::
  (133, false, .getfield 289, 3, 1, 0, 2, 0, 0) ::
  (136, false, .invokevirtual 362, 3, 163, 3, 15, 0, 0) ::
  (139, true, .iload_n 1, 1, 0, 0, 0, 0, 0) ::
  (140, false, .aload_n 0, 1, 0, 0, 0, 0, 0) ::
  (141, false, .getfield 63, 3, 0, 4, 2, 0, 0) ::
  (144, false, .getfield 366, 3, 12, 10, 2, 0, 0) ::
  (147, false, .iload_n 2, 1, 0, 0, 0, 0, 0) ::
  (148, false, .baload, 1, 0, 0, 0, 0, 0) ::
  (149, false, .ifCond .eq 7, 3, 84, 0, 0, 0, 0) ::
  (152, false, .iconst 1, 1, 0, 0, 0, jI 1, 0) ::
  (153, false, .goto 4, 3, 85, 0, 0, 0, 0) ::
  (156, false, .iconst 0, 1, 0, 0, 0, jI 0, 0) ::
  (157, false, .iadd, 1, 0, 0, 0, 0, 0) ::
  (158, false, .istore_n 1, 1, 0, 0, 0, 0, 0) ::
  (159, false, .iinc 2 1, 3, 0, 0, 0, jI 1, 0) ::
  (162, false, .goto (-158), 3, 4, 0, 0, 0, 0) ::
  (165, false, .return_, 1, 0, 0, 0, 0, 0) ::
  []
def cl_159_2 : List mj_E := (84, false, .getfield 63, 3, 0, 4, 2, 0, 0) ::
  (87, false, .getfield 356, 3, 12, 9, 2, 0, 0) ::
  (90, false, .iload_n 2, 1, 0, 0, 0, 0, 0) ::
  (91, false, .laload, 1, 0, 0, 0, 0, 0) ::
  (92, false, .aload_n 0, 1, 0, 0, 0, 0, 0) ::
  (93, false, .getfield 63, 3, 0, 4, 2, 0, 0) ::
  (96, false, .getfield 348, 3, 12, 4, 2, 0, 0) ::
  (99, false, .iload_n 2, 1, 0, 0, 0, 0, 0) ::
  (100, false, .iaload, 1, 0, 0, 0, 0, 0) ::
  (101, false, .i2l, 1, 0, 0, 0, 0, 0) ::
  (102, false, .aload_n 0, 1, 0, 0, 0, 0, 0) ::
  (103, false, .getfield 24, 3, 0, 0, 2, 0, 0) ::
  (106, false, .getfield 289, 3, 1, 0, 2, 0, 0) ::
  (109, false, .invokevirtual 359, 3, 161, 6, 15, 0, 0) ::
  (112, true, .aload_n 0, 1, 0, 0, 0, 0, 0) ::
  (113, false, .getfield 70, 3, 0, 5, 2, 0, 0) ::
  (116, false, .aload_n 0, 1, 0, 0, 0, 0, 0) ::
  (117, false, .getfield 102, 3, 0, 15, 2, 0, 0) ::
  (120, false, .iload_n 1, 1, 0, 0, 0, 0, 0) ::
  (121, false, .aaload, 1, 0, 0, 0, 0, 0) ::
  (122, false, .aload_n 0, 1, 0, 0, 0, 0, 0) ::
  (123, false, .getfield 24, 3, 0, 0, 2, 0, 0) ::
  (126, false, .getfield 197, 3, 1, 8, 2, 0, 0) ::
  (129, false, .aload_n 0, 1, 0, 0, 0, 0, 0) ::
  cl_159_3
def cl_159_1 : List mj_E := (44, false, .iastore, 1, 0, 0, 0, 0, 0) ::
  (45, true, .aload_n 0, 1, 0, 0, 0, 0, 0) ::
  (46, false, .getfield 110, 3, 0, 17, 2, 0, 0) ::
  (49, false, .iload_n 1, 1, 0, 0, 0, 0, 0) ::
  (50, false, .aload_n 0, 1, 0, 0, 0, 0, 0) ::
  (51, false, .getfield 63, 3, 0, 4, 2, 0, 0) ::
  (54, false, .getfield 349, 3, 12, 5, 2, 0, 0) ::
  (57, false, .iload_n 2, 1, 0, 0, 0, 0, 0) ::
  (58, false, .iaload, 1, 0, 0, 0, 0, 0) ::
  (59, false, .iastore, 1, 0, 0, 0, 0, 0) ::
  (60, true, .aload_n 0, 1, 0, 0, 0, 0, 0) ::
  (61, false, .getfield 70, 3, 0, 5, 2, 0, 0) ::
  (64, false, .aload_n 0, 1, 0, 0, 0, 0, 0) ::
  (65, false, .getfield 102, 3, 0, 15, 2, 0, 0) ::
  (68, false, .iload_n 1, 1, 0, 0, 0, 0, 0) ::
  (69, false, .aaload, 1, 0, 0, 0, 0, 0) ::
  (70, false, .aload_n 0, 1, 0, 0, 0, 0, 0) ::
  (71, false, .getfield 97, 3, 0, 14, 2, 0, 0) ::
  (74, false, .aload_n 0, 1, 0, 0, 0, 0, 0) ::
  (75, false, .getfield 63, 3, 0, 4, 2, 0, 0) ::
  (78, false, .getfield 352, 3, 12, 8, 2, 0, 0) ::
  (81, false, .iload_n 2, 1, 0, 0, 0, 0, 0) ::
  (82, false, .laload, 1, 0, 0, 0, 0, 0) ::
  (83, false, .aload_n 0, 1, 0, 0, 0, 0, 0) ::
  cl_159_2
def cl_159_0 : List mj_E := (0, false, .iconst 0, 1, 0, 0, 0, jI 0, 0) ::
  (1, false, .istore_n 1, 1, 0, 0, 0, 0, 0) ::
  (2, true, .iconst 0, 1, 0, 0, 0, jI 0, 0) ::
  (3, false, .istore_n 2, 1, 0, 0, 0, 0, 0) ::
  (4, true, .iload_n 2, 1, 0, 0, 0, 0, 0) ::
  (5, false, .aload_n 0, 1, 0, 0, 0, 0, 0) ::
  (6, false, .getfield 63, 3, 0, 4, 2, 0, 0) ::
  (9, false, .getfield 343, 3, 12, 3, 0, 0, 0) ::
  (12, false, .if_icmp .ge 153, 3, 89, 0, 0, 0, 0) ::
  (15, true, .aload_n 0, 1, 0, 0, 0, 0, 0) ::
  (16, false, .getfield 63, 3, 0, 4, 2, 0, 0) ::
  (19, false, .iload_n 2, 1, 0, 0, 0, 0, 0) ::
  (20, false, .aload_n 0, 1, 0, 0, 0, 0, 0) ::
  (21, false, .getfield 91, 3, 0, 12, 2, 0, 0) ::
  (24, false, .invokevirtual 344, 3, 160, 2, 12, 0, 0) ::
  (27, false, .ifCond .eq 112, 3, 75, 0, 0, 0, 0) ::
  (30, true, .aload_n 0, 1, 0, 0, 0, 0, 0) ::
  (31, false, .getfield 106, 3, 0, 16, 2, 0, 0) ::
  (34, false, .iload_n 1, 1, 0, 0, 0, 0, 0) ::
  (35, false, .aload_n 0, 1, 0, 0, 0, 0, 0) ::
  (36, false, .getfield 63, 3, 0, 4, 2, 0, 0) ::
  (39, false, .getfield 348, 3, 12, 4, 2, 0, 0) ::
  (42, false, .iload_n 2, 1, 0, 0, 0, 0, 0) ::
  (43, false, .iaload, 1, 0, 0, 0, 0, 0) ::
  cl_159_1
def cd_159 : List mj_E := cl_159_0
def cx_159 : mj_X := (0, [], [])
theorem tb_159 : mj_tab (mj_mt 159) cx_159 cd_159 mj_mh [(0, 0, 0), (0, 0, 0), (0, 0, 0), (0, 0, 0), (0, 0, 0), (0, 0, 0), (4207, 0, 0), (2195, 0, 0), (0, 0, 0), (0, 0, 0), (4207, 0, 0), (0, 0, 0), (0, 0, 0), (4215, 0, 0), (6077, 0, 0), (0, 0, 0), (0, 0, 0), (4219, 0, 0), (0, 0, 0), (0, 0, 0), (4207, 0, 0), (2197, 0, 0), (0, 0, 0), (0, 0, 0), (0, 0, 0), (0, 0, 0), (4220, 0, 0), (0, 0, 0), (0, 0, 0), (4207, 0, 0), (2199, 0, 0), (0, 0, 0), (0, 0, 0), (0, 0, 0), (0, 0, 0), (4208, 0, 0), (0, 0, 0), (4218, 0, 0), (0, 0, 0), (0, 0, 0), (0, 0, 0), (4217, 0, 0), (0, 0, 0), (4207, 0, 0), (2205, 0, 0), (0, 0, 0), (0, 0, 0), (0, 0, 0), (4207, 0, 0), (2207, 0, 0), (0, 0, 0), (0, 0, 0), (0, 0, 0), (4207, 0, 0), (2197, 0, 0), (0, 0, 0), (0, 0, 0), (0, 0, 0), (0, 0, 0), (4203, 0, 0), (1190, 0, 0), (6081, 0, 0), (0, 0, 0), (4208, 0, 0), (0, 0, 0), (4218, 0, 0), (0, 0, 0), (0, 0, 0), (0, 0, 0), (4203, 0, 0), (1200, 0, 0), (0, 0, 0), (4203, 0, 0), (1190, 0, 0), (6092, 0, 0), (0, 0, 0), (0, 0, 0), (4207, 0, 0), (2209, 0, 0), (0, 0, 0), (0, 0, 0), (0, 0, 0), (0, 0, 0), (0, 0, 0), (0, 0, 0), (0, 0, 0), (0, 0, 0), (0, 0, 0), (0, 0, 0), (0, 0, 0)] = true := mj_tab_f (by decide +kernel)
theorem ct_159 (G : mj_G) {h : mj_H} (L : isLay h) {T : List Tr} {M : Nat → Bool} {v : Nat} (hT : isTr h T M v) (hbt : ∀ t, t ∈ T → bdT t ∧ (-2147483648 ≤ t.1 ∧ t.1 < 2147483648)) (hcap : mCt M T.length ≤ 256) {g : Fm} (hg : isFm h 112 g) (hgb : (-9223372036854775808 ≤ g.1 ∧ g.1 < 9223372036854775808) ∧ -9223372036854775808 ≤ g.2.1 ∧ g.2.1 < 9223372036854775808) {m : mxI} (hm : isM h 114 m) {va vb vc vd : Int} (wa : isW h 34 va) (wb : isW h 36 vb) (wc : isW h 38 vc) (wd : isW h 40 vd) {zf : Nat → xI} (hz : ∀ k t, T[k]? = some t → M k = true → hitT g t = true → tlP m va vb vc vd t (zf k)) : mj_Ct G (mj_mt 159) 0 0 [.ref 1] h (fun o h' => o = .returned none ∧ (∀ k t, T[k]? = some t → M k = true → hitT g t = true → tdP M zf h' k t) ∧ (∀ k t, T[k]? = some t → M k = true → ¬ hitT g t = true → tdP M zf h k t → tdP M zf h' k t) ∧ (isW h' 36 vb ∧ isW h' 38 vc) ∧ Fr sTd noT h h') := by
  have hTl := hT.2.1
  have nat : ∀ {k : Nat}, k < 262144 → (jI (k : Int)).toNatClampNeg = k := by
    intro k hk
    rw [jI_nat (by omega) (by omega), Int.toNat_natCast]
  have vin : ∀ {k X M : Nat}, X = M → k < M → M ≤ 262144 → vp_in (jI (k : Int)) X := by
    rintro k X M rfl hk hM
    exact jI_in (by omega) (by omega) (by omega)
  have ly : ∀ {h' : mj_H}, Fr sTd noT h h' → isLay h' := fun F => L.F F (fun a z => z.elim)
  have tr : ∀ {h' : mj_H}, Fr sTd noT h h' → isTr h' T M v := fun F => hT.F F (fun x z => by omega)
  refine mj_Ct_of mj_ok tb_159 rfl rfl (Nat.le_of_ble_eq_true rfl) (fun Run hR => ?_)
  have r4 : ∀ (p k : Nat) (iI kI : Int32) (h' : mj_H), k + p = T.length → (∀ j t, j < k → T[j]? = some t → M j = true → hitT g t = true → tdP M zf h' j t) → (∀ j t, T[j]? = some t → M j = true → ¬ hitT g t = true → tdP M zf h j t → tdP M zf h' j t) → (isW h' 36 vb ∧ isW h' 38 vc) → Fr sTd noT h h' → iI = jI (mCt M k) → kI = jI k → Run 4 (l159 iI kI) [] h' (0, 0) := by
    intro p
    induction p with
    | zero =>
      rintro k iI kI h' hk t1 t2 ws F rfl rfl
      have L' := ly F
      refine hR 60 4 _ _ _ _ _ _ rfl ?_
      refine ⟨L'.K 1 rfl, _, L'.R 1 4 _ rfl, L'.K 69 rfl, fun c => ⟨rfl, fun j t hj => t1 j t (by have := lt_of_some hj; omega) hj, t2, ws, F⟩, fun c => ?_⟩
      rw [(tr F).1] at c
      simp (disch := omega) only [mj_lcm, jI_lt, jI_le, jI_eq, jL_lt, jL_le, jL_eq, jI_lt0, jI_0le, jI_0lt, jI_le0, jI_eq0, jL_eq0, jI_L, jI_add, jI_sub, jI_mul, jI_neg, jL_add, jL_sub, jL_mul, jL_neg, jL_I, jI_div, jI_mod, jL_div, jL_mod] at c
      omega
    | succ p ih =>
      rintro k iI kI h' hk t1 t2 ws F rfl rfl
      have L' := ly F
      have tr' := tr F
      obtain ⟨t, ht⟩ : ∃ t, T[k]? = some t := ⟨T[k]'(by omega), List.getElem?_eq_getElem (by omega)⟩
      have hmem := List.mem_of_getElem? ht
      have hcle := mCt_le M (i := k) (k := T.length) (by omega)
      have hcs : mCt M (k + 1) = mCt M k + (if M k = true then 1 else 0) := rfl
      -- on to the next trial
      have r139 : ∀ (h4 : mj_H), (∀ j t, j < k + 1 → T[j]? = some t → M j = true → hitT g t = true → tdP M zf h4 j t) → (∀ j t, T[j]? = some t → M j = true → ¬ hitT g t = true → tdP M zf h j t → tdP M zf h4 j t) → (isW h4 36 vb ∧ isW h4 38 vc) → Fr sTd noT h h4 → Run 139 (l159 (jI (mCt M k)) (jI k)) [] h4 (0, 0) := by
        intro h4 a1 a2 ws4 F4
        have L4 := ly F4
        obtain ⟨⟨-, -, b3⟩, -⟩ := (tr F4).2.2.2 k t ht
        refine hR 60 75 _ _ _ _ _ _ rfl ?_
        refine ⟨L4.K 1 rfl, _, L4.R 1 4 _ rfl, L4.K 69 rfl, _, L4.R 69 10 _ rfl, L4.K 84 rfl, vin (M := 8192) (L4.N 83 rfl) (by omega) (by decide), fun c => ?_, fun c => ?_⟩
        · rw [nat (by omega), b3] at c
          have hM : ¬ M k = true := fun z => by
            rw [if_pos z] at c
            exact absurd c (by decide)
          rw [if_neg hM] at hcs
          exact ih (k + 1) _ _ h4 (by omega) a1 a2 ws4 F4 (by rw [jI_add, hcs]; rfl) (by rw [jI_add]; rfl)
        · rw [nat (by omega), b3] at c
          have hM : M k = true := Classical.byContradiction fun z => by
            rw [if_neg z] at c
            exact c rfl
          rw [if_pos hM] at hcs
          exact ih (k + 1) _ _ h4 (by omega) a1 a2 ws4 F4 (by rw [jI_add, hcs]; rfl) (by rw [jI_add]; rfl)
      have r30 : M k = true → hitT g t = true → Run 30 (l159 (jI (mCt M k)) (jI k)) [] h' (0, 0) := by
        intro hM hit
        obtain ⟨⟨u1, u2, hub⟩, n1, n2, mv1, mv2, ez⟩ := hz k t ht hM hit
        have htb := (hbt t hmem).2
        have hclt : mCt M k < 256 := by
          have := mCt_lt (M := M) (i := k) (k := T.length) (by omega) hM
          omega
        obtain ⟨q, hq⟩ : ∃ q, q = 132 + 5 * mCt M k := ⟨_, rfl⟩
        have keep : ∀ {S : Nat → Prop} {h1 h2 : mj_H} {j : Nat} {t' : Tr}, Fr S noT h1 h2 → (∀ x, S x → x = 3 ∨ x = 4 ∨ x = 36 ∨ x = 38 ∨ (86 ≤ x ∧ x ≤ 96) ∨ (q < x ∧ x ≤ q + 4)) → mCt M j ≠ mCt M k → tdP M zf h1 j t' → tdP M zf h2 j t' := by
          rintro S h1 h2 j t' Fx hs hne ⟨c1, c2, c3⟩
          refine ⟨(Fx.I (fun z => by have := hs _ z; omega) _).trans c1, (Fx.I (fun z => by have := hs _ z; omega) _).trans c2, c3.F Fx (fun x h3 h4 z => ?_) (fun _ _ _ z => z)⟩
          have := hs _ z
          omega
        have ne : ∀ {j : Nat}, M j = true → j ≠ k → mCt M j ≠ mCt M k := by
          intro j hj hjk
          rcases Nat.lt_or_ge j k with z | z
          · have := mCt_lt z hj
            omega
          · have := mCt_lt (show k < j by omega) hM
            omega
        -- the pair is moved
        have r112 : ∀ (h4 : mj_H), isQ h4 q (trn (m.1 * (t.2.2.2.2.1 * t.1) + m.2.1 * (t.2.2.2.2.2 * t.1), m.2.2.1 * (t.2.2.2.2.1 * t.1) + m.2.2.2 * (t.2.2.2.2.2 * t.1))) → hI h4 128 (mCt M k) = jI t.1 → hI h4 129 (mCt M k) = jI t.2.1 → (∀ j t', j ≠ k → T[j]? = some t' → M j = true → tdP M zf h' j t' → tdP M zf h4 j t') → (isW h4 36 vb ∧ isW h4 38 vc) → Fr sTd noT h h4 → Run 112 (l159 (jI (mCt M k)) (jI k)) [] h4 (0, 0) := by
          intro h4 q4 i8 i9 kp ⟨wb4, wc4⟩ F4
          have L4 := ly F4
          have c163 := ct_163 G L4 (q := q) q4 (by omega) (wa.F F4 (by omega) (by omega) (fun z => z)) wb4 wc4 (wd.F F4 (by omega) (by omega) (fun z => z)) mv1 mv2
          have rq : h4.2.2.1 127 (jI (mCt M k : Int)).toNatClampNeg = some q := by
            rw [nat (by omega), hq]
            exact L4.q hclt
          refine hR 60 62 _ _ _ _ _ _ rfl ?_
          refine ⟨L4.K 1 rfl, _, L4.R 1 5 _ rfl, L4.K 1 rfl, _, L4.R 1 15 _ rfl, Or.inr (L4.K 127 rfl), vin (M := 256) (L4.N 126 rfl) hclt (by decide), _, rq, L4.K 1 rfl, _, L4.R 1 0 _ rfl, L4.K 2 rfl, _, L4.R 2 8 _ rfl, L4.K 1 rfl, _, L4.R 1 0 _ rfl, L4.K 2 rfl, _, L4.R 2 0 _ rfl, L4.K 85 rfl, jcallP c163 ?_⟩
          rintro o h5 ⟨rfl, q5, wb5, wc5, FI⟩
          have F5 : Fr (fun x => x = 3 ∨ x = 4 ∨ x = 36 ∨ x = 38 ∨ (86 ≤ x ∧ x ≤ 96) ∨ (q < x ∧ x ≤ q + 4)) noT h4 h5 := FI.to noT (fun x hx => by
            simp only [mFr, List.mem_cons, List.not_mem_nil, or_false] at hx
            omega)
          have Fo : Fr sTd noT h h5 := F4.trans (F5.mono (fun a z => by omega) (fun _ z => z))
          refine r139 h5 (fun j t' hj hjt hMj hhit => ?_) (fun j t' hjt hMj hno htd => ?_) ⟨wb5, wc5⟩ Fo
          · by_cases e : j = k
            · subst e
              rw [ht] at hjt
              cases hjt
              refine ⟨(F5.I (by omega) _).trans i8, (F5.I (by omega) _).trans i9, ?_⟩
              rw [ez, ← hq]
              exact q5
            · exact keep F5 (fun x z => z) (ne hMj e) (kp j t' e hjt hMj (t1 j t' (by omega) hjt hMj hhit))
          · have e : j ≠ k := fun z => by
              subst z
              rw [ht] at hjt
              cases hjt
              exact hno hit
            exact keep F5 (fun x z => z) (ne hMj e) (kp j t' e hjt hMj (t2 j t' hjt hMj hno htd))
        have r60 : ∀ (h4 : mj_H), hI h4 128 (mCt M k) = jI t.1 → hI h4 129 (mCt M k) = jI t.2.1 → (∀ j t', j ≠ k → T[j]? = some t' → M j = true → tdP M zf h' j t' → tdP M zf h4 j t') → (isW h4 36 vb ∧ isW h4 38 vc) → Fr sTd noT h h4 → Run 60 (l159 (jI (mCt M k)) (jI k)) [] h4 (0, 0) := by
          intro h4 i8 i9 kp ⟨wb4, wc4⟩ F4
          have L4 := ly F4
          obtain ⟨⟨b1, -, -⟩, -, -, b6, b7⟩ := (tr F4).2.2.2 k t ht
          have c161 := ct_161 G L4 (q := q) (hq ▸ L4.Q0 hclt) (by omega) (hm.F F4 (by omega) (fun _ _ z => z)) u1 u2 hub.1 hub.2
          have e1 : hI h4 78 (jI (k : Int)).toNatClampNeg = jI t.1 := by rw [nat (by omega)]; exact b1
          have e2 : hJ h4 82 (jI (k : Int)).toNatClampNeg = jL t.2.2.2.2.1 := by rw [nat (by omega)]; exact b6
          have e3 : hJ h4 83 (jI (k : Int)).toNatClampNeg = jL t.2.2.2.2.2 := by rw [nat (by omega)]; exact b7
          rw [← e2, ← e3, ← jI_L htb.1 htb.2, ← e1] at c161
          have rq : h4.2.2.1 127 (jI (mCt M k : Int)).toNatClampNeg = some q := by
            rw [nat (by omega), hq]
            exact L4.q hclt
          refine hR 60 34 _ _ _ _ _ _ rfl ?_
          refine ⟨L4.K 1 rfl, _, L4.R 1 5 _ rfl, L4.K 1 rfl, _, L4.R 1 15 _ rfl, Or.inr (L4.K 127 rfl), vin (M := 256) (L4.N 126 rfl) hclt (by decide), _, rq, L4.K 1 rfl, _, L4.R 1 14 _ rfl, L4.K 1 rfl, _, L4.R 1 4 _ rfl, L4.K 69 rfl, _, L4.R 69 8 _ rfl, L4.K 82 rfl, vin (M := 8192) (L4.N 81 rfl) (by omega) (by decide), L4.K 1 rfl, _, L4.R 1 4 _ rfl, L4.K 69 rfl, _, L4.R 69 9 _ rfl, L4.K 83 rfl, vin (M := 8192) (L4.N 82 rfl) (by omega) (by decide), L4.K 1 rfl, _, L4.R 1 4 _ rfl, L4.K 69 rfl, _, L4.R 69 4 _ rfl, Or.inl (L4.K 78 rfl), vin (M := 8192) (L4.N 77 rfl) (by omega) (by decide), L4.K 1 rfl, _, L4.R 1 0 _ rfl, L4.K 2 rfl, _, L4.R 2 0 _ rfl, L4.K 85 rfl, jcallP c161 ?_⟩
          rintro o h5 ⟨rfl, q5, FI⟩
          have F5 : Fr (fun x => x = 3 ∨ x = 4 ∨ (86 ≤ x ∧ x ≤ 96) ∨ (q < x ∧ x ≤ q + 4)) noT h4 h5 := FI.to noT (fun x hx => by
            simp only [List.mem_cons, List.not_mem_nil, or_false] at hx
            omega)
          exact r112 h5 q5 ((F5.I (by omega) _).trans i8) ((F5.I (by omega) _).trans i9) (fun j t' hj hjt hMj htd => keep F5 (fun x z => by omega) (ne hMj hj) (kp j t' hj hjt hMj htd)) ⟨wb4.F F5 (by omega) (by omega) (fun z => z), wc4.F F5 (by omega) (by omega) (fun z => z)⟩ (F4.trans (F5.mono (fun a z => by omega) (fun _ z => z)))
        have putI : ∀ {h4 : mj_H} {j : Nat} {t' : Tr} {c : Nat} (v : Int32), (c = 128 ∨ c = 129) → mCt M j ≠ mCt M k → tdP M zf h4 j t' → tdP M zf (sI h4 c (mCt M k) v) j t' := by
          rintro h4 j t' c v hc hne ⟨c1, c2, c3⟩
          have Fx : Fr (fun a => a = c) noT h4 (sI h4 c (mCt M k) v) := (Fr.refl (fun a => a = c) noT h4).sI rfl _ _
          have c3' := c3.F Fx (fun x h3 h4 z => by omega) (fun _ _ _ z => z)
          rcases hc with rfl | rfl
          · exact ⟨(sI_k _ _ hne _).trans c1, c2, c3'⟩
          · exact ⟨c1, (sI_k _ _ hne _).trans c2, c3'⟩
        have r45 : ∀ (h4 : mj_H), hI h4 128 (mCt M k) = jI t.1 → (∀ j t', j ≠ k → T[j]? = some t' → M j = true → tdP M zf h' j t' → tdP M zf h4 j t') → (isW h4 36 vb ∧ isW h4 38 vc) → Fr sTd noT h h4 → Run 45 (l159 (jI (mCt M k)) (jI k)) [] h4 (0, 0) := by
          intro h4 i8 kp ⟨wb4, wc4⟩ F4
          have L4 := ly F4
          obtain ⟨⟨-, b2, -⟩, -⟩ := (tr F4).2.2.2 k t ht
          have Fx : Fr (fun a => a = 129) noT h4 (sI h4 129 (mCt M k) (jI t.2.1)) := (Fr.refl (fun a => a = 129) noT h4).sI rfl _ _
          refine hR 60 25 _ _ _ _ _ _ rfl ?_
          refine ⟨L4.K 1 rfl, _, L4.R 1 17 _ rfl, L4.K 1 rfl, _, L4.R 1 4 _ rfl, L4.K 69 rfl, _, L4.R 69 5 _ rfl, Or.inl (L4.K 79 rfl), vin (M := 8192) (L4.N 78 rfl) (by omega) (by decide), L4.K 129 rfl, vin (M := 256) (L4.N 128 rfl) hclt (by decide), ?_⟩
          rw [nat (show k < 262144 by omega), nat (show mCt M k < 262144 by omega), b2]
          exact r60 _ i8 (sI_at _ _ _ _) (fun j t' hj hjt hMj htd => putI _ (Or.inr rfl) (ne hMj hj) (kp j t' hj hjt hMj htd)) ⟨wb4.F Fx (by decide) (by decide) (fun z => z), wc4.F Fx (by decide) (by decide) (fun z => z)⟩ (F4.sI (by omega) _ _)
        obtain ⟨⟨b1, -, -⟩, -⟩ := tr'.2.2.2 k t ht
        have Fx : Fr (fun a => a = 128) noT h' (sI h' 128 (mCt M k) (jI t.1)) := (Fr.refl (fun a => a = 128) noT h').sI rfl _ _
        refine hR 60 16 _ _ _ _ _ _ rfl ?_
        refine ⟨L'.K 1 rfl, _, L'.R 1 16 _ rfl, L'.K 1 rfl, _, L'.R 1 4 _ rfl, L'.K 69 rfl, _, L'.R 69 4 _ rfl, Or.inl (L'.K 78 rfl), vin (M := 8192) (L'.N 77 rfl) (by omega) (by decide), L'.K 128 rfl, vin (M := 256) (L'.N 127 rfl) hclt (by decide), ?_⟩
        rw [nat (show k < 262144 by omega), nat (show mCt M k < 262144 by omega), b1]
        exact r45 _ (sI_at _ _ _ _) (fun j t' hj hjt hMj htd => putI _ (Or.inl rfl) (ne hMj hj) htd) ⟨ws.1.F Fx (by decide) (by decide) (fun z => z), ws.2.F Fx (by decide) (by decide) (fun z => z)⟩ (F.sI (by omega) _ _)
      have r15 : Run 15 (l159 (jI (mCt M k)) (jI k)) [] h' (0, 0) := by
        refine hR 60 9 _ _ _ _ _ _ rfl ?_
        refine ⟨L'.K 1 rfl, _, L'.R 1 4 _ rfl, L'.K 1 rfl, _, L'.R 1 12 _ rfl, L'.K 69 rfl, jcall (ct_160 G L' tr' ht (hbt t hmem).1 (hg.F F (by omega)) hgb) ?_⟩
        by_cases z : M k = true ∧ hitT g t = true
        · rw [if_pos z]
          exact ⟨fun c => absurd c (by decide), fun _ => r30 z.1 z.2⟩
        · rw [if_neg z]
          refine ⟨fun _ => r139 h' (fun j t' hj hjt hMj hhit => ?_) t2 ws F, fun c => absurd rfl c⟩
          by_cases e : j = k
          · subst e
            rw [ht] at hjt
            cases hjt
            exact absurd ⟨hMj, hhit⟩ z
          · exact t1 j t' (by omega) hjt hMj hhit
      refine hR 60 4 _ _ _ _ _ _ rfl ?_
      refine ⟨L'.K 1 rfl, _, L'.R 1 4 _ rfl, L'.K 69 rfl, fun c => ?_, fun c => r15⟩
      rw [tr'.1] at c
      simp (disch := omega) only [mj_lcm, jI_lt, jI_le, jI_eq, jL_lt, jL_le, jL_eq, jI_lt0, jI_0le, jI_0lt, jI_le0, jI_eq0, jL_eq0, jI_L, jI_add, jI_sub, jI_mul, jI_neg, jL_add, jL_sub, jL_mul, jL_neg, jL_I, jI_div, jI_mod, jL_div, jL_mod] at c
      omega
  have r2 : ∀ (x2 : Option Value), Run 2 [some (.ref 1), some (.int (jI 0)), x2] [] h (0, 0) := by
    intro x2
    refine hR 60 2 _ _ _ _ _ _ rfl ?_
    exact r4 T.length 0 _ _ h (by omega) (fun j t hj => by omega) (fun j t _ _ _ q => q) ⟨wb, wc⟩ (Fr.refl _ _ h) rfl rfl
  refine hR 60 0 _ _ _ _ _ _ rfl ?_
  exact r2 _
