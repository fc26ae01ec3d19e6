/-! long numbers: words of 32 bits -/
def wd (x : Int32) : Nat := x.toBitVec.toNat
theorem wd_lt (x : Int32) : wd x < 4294967296 := x.toBitVec.isLt
theorem wd_jI (a : Int) : wd (jI a) = (a % 4294967296).toNat := jI_tn a
theorem jI_wd (x : Int32) : jI (wd x) = x := by
  symm
  apply jI_ext
  show wd x = _
  have := wd_lt x
  omega
theorem wd_0 {x : Int32} : x = 0 ↔ wd x = 0 := by
  constructor
  · rintro rfl
    rfl
  · intro h
    rw [← jI_wd x, h]
    rfl
/-- a word as a long, without sign -/
theorem wd_L (x : Int32) : x.toInt64 &&& jL 4294967295 = jL (wd x) := by
  have h1 := jI_rg x
  have h2 : x.toInt64 = jL x.toInt := by
    rw [← jI_L h1.1 h1.2, jI_of]
  rw [h2, jL_mask (k := 32) (by decide) (by decide)]
  congr 1
  have h3 : wd x = (x.toInt % 4294967296).toNat := by
    rw [← wd_jI, jI_of]
  rw [h3]
  omega
def mag (g : Nat → Int32) : Nat → Nat
  | 0 => 0
  | n + 1 => mag g n + wd (g n) * 4294967296 ^ n
theorem mag_lt (g : Nat → Int32) : ∀ n, mag g n < 4294967296 ^ n
  | 0 => Nat.one_pos
  | n + 1 => by
    have h1 := mag_lt g n
    have h2 := wd_lt (g n)
    unfold mag
    rw [Nat.pow_succ]
    have h3 : wd (g n) * 4294967296 ^ n ≤ 4294967295 * 4294967296 ^ n := Nat.mul_le_mul_right _ (by omega)
    generalize 4294967296 ^ n = q at *
    omega
theorem mag_congr {g g' : Nat → Int32} : ∀ {n : Nat}, (∀ k, k < n → g k = g' k) → mag g n = mag g' n
  | 0, _ => rfl
  | n + 1, h => by
    unfold mag
    rw [mag_congr (fun k hk => h k (by omega)), h n (by omega)]
/-- only ints of these cells have changed -/
def FrI (S : List Nat) (h h' : mj_H) : Prop := h'.2 = h.2 ∧ ∀ a, a ∉ S → h'.1 a = h.1 a
theorem FrI.refl (S : List Nat) (h : mj_H) : FrI S h h := ⟨rfl, fun _ _ => rfl⟩
theorem FrI.trans {S T : List Nat} {h h' h'' : mj_H} (a : FrI S h h') (b : FrI T h' h'') : FrI (S ++ T) h h'' :=
  ⟨b.1.trans a.1, fun x hx => (b.2 x (fun z => hx (List.mem_append_right _ z))).trans (a.2 x (fun z => hx (List.mem_append_left _ z)))⟩
theorem FrI.mono {S T : List Nat} {h h' : mj_H} (a : FrI S h h') (hs : ∀ x, x ∈ S → x ∈ T) : FrI T h h' := ⟨a.1, fun x hx => a.2 x (fun z => hx (hs x z))⟩
theorem FrI.sI {S : List Nat} {h h' : mj_H} (a : FrI S h h') {x : Nat} (hx : x ∈ S) (k : Nat) (v : Int32) : FrI S h (sI h' x k v) :=
  ⟨a.1, fun y hy => by
    rw [← a.2 y hy]
    funext z
    show mj_up h'.1 x k v y z = _
    have : y ≠ x := fun e => hy (e ▸ hx)
    simp [mj_up, this]⟩
theorem FrI.sW {S : List Nat} {h h' : mj_H} (a : FrI S h h') {x : Nat} (hx : x ∈ S) (g : Nat → Int32) : FrI S h (sW h' x g) :=
  ⟨a.1, fun y hy => by
    rw [← a.2 y hy]
    have : y ≠ x := fun e => hy (e ▸ hx)
    exact mj_row_ne this⟩
theorem sI_at (h : mj_H) (a k : Nat) (v : Int32) : hI (sI h a k v) a k = v := by simp [hI, sI, mj_up]
theorem sI_k (h : mj_H) (a : Nat) {k k' : Nat} (hk : k' ≠ k) (v : Int32) : hI (sI h a k v) a k' = hI h a k' := by simp [hI, sI, mj_up, hk]
theorem sI_a (h : mj_H) {a a' : Nat} (ha : a' ≠ a) (k : Nat) (v : Int32) : (sI h a k v).1 a' = h.1 a' := by
  funext z
  simp [sI, mj_up, ha]
theorem sI_sI (h : mj_H) (a k : Nat) (v w : Int32) : sI (sI h a k v) a k w = sI h a k w := by
  unfold sI
  simp only [mj_up_up]
theorem sI_same (h : mj_H) (a k : Nat) : sI h a k (hI h a k) = h := by
  unfold sI
  have : mj_up h.1 a k (hI h a k) = h.1 := by
    funext x y
    by_cases z : x = a ∧ y = k
    · simp [mj_up, z, hI]
    · simp [mj_up, z]
  rw [this]
/-- a long number's cells -/
def isW0 (h : mj_H) (w : Nat) : Prop := hK h w = 15 ∧ hR h w 0 = some (w + 1) ∧ hK h (w + 1) = 1 ∧ hN h (w + 1) = 1024 ∧ 6 < w
/-- a long number -/
def isW (h : mj_H) (w : Nat) (v : Int) : Prop := isW0 h w ∧ ∃ n : Nat, n ≤ 1024 ∧ hI h w 1 = jI n ∧ hI h w 2 = jI v.sign ∧ v.natAbs = mag (h.1 (w + 1)) n ∧ (n = 0 ∨ 4294967296 ^ (n - 1) ≤ v.natAbs)
theorem isW0.fr {h h' : mj_H} {w : Nat} (a : isW0 h w) (e : h'.2 = h.2) : isW0 h' w := by
  obtain ⟨a1, a2, a3, a4, a5⟩ := a
  exact ⟨by show (h'.2.2.2.1 w).1 = _; rw [e]; exact a1, by show h'.2.2.1 w 0 = _; rw [e]; exact a2, by show (h'.2.2.2.1 _).1 = _; rw [e]; exact a3, by show (h'.2.2.2.1 _).2 = _; rw [e]; exact a4, a5⟩
theorem isW.fr {S : List Nat} {h h' : mj_H} {w : Nat} {v : Int} (a : isW h w v) (f : FrI S h h') (h1 : w ∉ S) (h2 : w + 1 ∉ S) : isW h' w v := by
  obtain ⟨a0, n, a1, a2, a3, a4, a5⟩ := a
  refine ⟨a0.fr f.1, n, a1, ?_, ?_, ?_, a5⟩
  · show h'.1 w 1 = _
    rw [f.2 w h1]; exact a2
  · show h'.1 w 2 = _
    rw [f.2 w h1]; exact a3
  · rw [f.2 _ h2]; exact a4
/-- FormHouse$Whole.at(I)J; cuts at [] -/
def cd_32 : List mj_E := [(0, false, .aload_n 0, 1, 0, 0, 0, 0, 0),
  (1, false, .getfield 9, 3, 5, 0, 2, 0, 0),
  (4, false, .iload_n 1, 1, 0, 0, 0, 0, 0),
  (5, false, .iaload, 1, 0, 0, 0, 0, 0),
  (6, false, .i2l, 1, 0, 0, 0, 0, 0),
  (7, false, .ldc2_w 15, 3, 0, 0, 0, 0, jL 4294967295),
  (10, false, .land, 1, 0, 0, 0, 0, 0),
  (11, false, .lreturn, 1, 0, 0, 0, 0, 0)]
def cx_32 : mj_X := (2, [], [])
theorem tb_32 : mj_tab (mj_mt 32) cx_32 cd_32 mj_mh [(0, 0, 0), (1097, 0, 0), (0, 0, 0), (0, 0, 0), (0, 0, 0), (3113, 0, 0), (0, 0, 0), (0, 0, 0)] = true := mj_tab_f (by decide +kernel)
theorem ct_32 (G : mj_G) {h : mj_H} {w : Nat} (hw : isW0 h w) {k : Int} (h0 : 0 ≤ k) (h1 : k < 1024) : mj_Ct G (mj_mt 32) 0 0 [.ref w, .int (jI k)] h (jR (.long (jL (wd (hI h (w + 1) k.toNat)))) h) := by
  obtain ⟨a1, a2, a3, a4, a5⟩ := hw
  refine mj_Ct_of mj_ok tb_32 rfl rfl (Nat.le_of_ble_eq_true rfl) (fun Run hR => ?_)
  refine hR 20 0 _ _ _ _ _ _ rfl ?_
  refine ⟨a1, _, a2, Or.inl a3, ?_, jRe ?_⟩
  · rw [a4]
    exact jI_in h0 (by omega) (by omega)
  · rw [jI_nat h0 (by omega), wd_L]
/-- FormHouse$Whole.be(J)V; cuts at [12, 60] -/
def cl_21_1 : List mj_E := (33, false, .aload_n 0, 1, 0, 0, 0, 0, 0) ::
  (34, false, .getfield 9, 3, 5, 0, 2, 0, 0) ::
  (37, false, .iconst 1, 1, 0, 0, 0, jI 1, 0) ::
  (38, false, .iaload, 1, 0, 0, 0, 0, 0) ::
  (39, false, .ifCond .eq 7, 3, 31, 0, 0, 0, 0) ::
  (42, false, .iconst 2, 1, 0, 0, 0, jI 2, 0) ::
  (43, false, .goto 17, 3, 39, 0, 0, 0, 0) ::
  (46, false, .aload_n 0, 1, 0, 0, 0, 0, 0) ::
  (47, false, .getfield 9, 3, 5, 0, 2, 0, 0) ::
  (50, false, .iconst 0, 1, 0, 0, 0, jI 0, 0) ::
  (51, false, .iaload, 1, 0, 0, 0, 0, 0) ::
  (52, false, .ifCond .eq 7, 3, 38, 0, 0, 0, 0) ::
  (55, false, .iconst 1, 1, 0, 0, 0, jI 1, 0) ::
  (56, false, .goto 4, 3, 39, 0, 0, 0, 0) ::
  (59, false, .iconst 0, 1, 0, 0, 0, jI 0, 0) ::
  (60, true, .putfield 17, 3, 5, 1, 0, 0, 0) ::
  (63, false, .aload_n 0, 1, 0, 0, 0, 0, 0) ::
  (64, false, .lload_n 1, 1, 0, 0, 0, 0, 0) ::
  (65, false, .invokestatic 21, 3, 22, 1, 0, 0, 0) ::
  (68, false, .putfield 27, 3, 5, 2, 0, 0, 0) ::
  (71, false, .return_, 1, 0, 0, 0, 0, 0) ::
  []
def cl_21_0 : List mj_E := (0, false, .lload_n 1, 1, 0, 0, 0, 0, 0) ::
  (1, false, .lconst 0, 1, 0, 0, 0, 0, jL 0) ::
  (2, false, .lcmp, 1, 0, 0, 0, 0, 0) ::
  (3, false, .ifCond .ge 8, 3, 7, 0, 0, 0, 0) ::
  (6, false, .lload_n 1, 1, 0, 0, 0, 0, 0) ::
  (7, false, .lneg, 1, 0, 0, 0, 0, 0) ::
  (8, false, .goto 4, 3, 8, 0, 0, 0, 0) ::
  (11, false, .lload_n 1, 1, 0, 0, 0, 0, 0) ::
  (12, true, .lstore_n 3, 1, 0, 0, 0, 0, 0) ::
  (13, false, .aload_n 0, 1, 0, 0, 0, 0, 0) ::
  (14, false, .getfield 9, 3, 5, 0, 2, 0, 0) ::
  (17, false, .iconst 0, 1, 0, 0, 0, jI 0, 0) ::
  (18, false, .lload_n 3, 1, 0, 0, 0, 0, 0) ::
  (19, false, .l2i, 1, 0, 0, 0, 0, 0) ::
  (20, false, .iastore, 1, 0, 0, 0, 0, 0) ::
  (21, false, .aload_n 0, 1, 0, 0, 0, 0, 0) ::
  (22, false, .getfield 9, 3, 5, 0, 2, 0, 0) ::
  (25, false, .iconst 1, 1, 0, 0, 0, jI 1, 0) ::
  (26, false, .lload_n 3, 1, 0, 0, 0, 0, 0) ::
  (27, false, .bipush 32, 2, 0, 0, 0, jI 32, 0) ::
  (29, false, .lushr, 1, 0, 0, 0, 0, 0) ::
  (30, false, .l2i, 1, 0, 0, 0, 0, 0) ::
  (31, false, .iastore, 1, 0, 0, 0, 0, 0) ::
  (32, false, .aload_n 0, 1, 0, 0, 0, 0, 0) ::
  cl_21_1
def cd_21 : List mj_E := cl_21_0
def cx_21 : mj_X := (0, [], [])
theorem tb_21 : mj_tab (mj_mt 21) cx_21 cd_21 mj_mh [(0, 0, 0), (0, 0, 0), (0, 0, 0), (0, 0, 0), (0, 0, 0), (0, 0, 0), (0, 0, 0), (0, 0, 0), (0, 0, 0), (0, 0, 0), (1097, 0, 0), (0, 0, 0), (0, 0, 0), (0, 0, 0), (0, 0, 0), (0, 0, 0), (1097, 0, 0), (0, 0, 0), (0, 0, 0), (0, 0, 0), (0, 0, 0), (0, 0, 0), (0, 0, 0), (0, 0, 0), (0, 0, 0), (1097, 0, 0), (0, 0, 0), (0, 0, 0), (0, 0, 0), (0, 0, 0), (0, 0, 0), (0, 0, 0), (1097, 0, 0), (0, 0, 0), (0, 0, 0), (0, 0, 0), (0, 0, 0), (0, 0, 0), (0, 0, 0), (1104, 0, 0), (0, 0, 0), (0, 0, 0), (3063, 0, 0), (1108, 0, 0), (0, 0, 0)] = true := mj_tab_f (by decide +kernel)
theorem ct_21 (G : mj_G) {h : mj_H} {w : Nat} (hw : isW0 h w) {v : Int} (h1 : -9223372036854775808 < v) (h2 : v < 9223372036854775808) : mj_Ct G (mj_mt 21) 0 0 [.ref w, .long (jL v)] h (fun o h' => o = .returned none ∧ isW h' w v ∧ FrI [w, w + 1] h h') := by
  have hw' := hw
  obtain ⟨a1, a2, a3, a4, a5⟩ := hw
  refine mj_Ct_of mj_ok tb_21 rfl rfl (Nat.le_of_ble_eq_true rfl) (fun Run hR => ?_)
  have main : ∀ (h' : mj_H) (n : Nat) (nI : Int32) (x3 x4 : Option Value), FrI [w, w + 1] h h' → n ≤ 2 → nI = jI n → v.natAbs = mag (h'.1 (w + 1)) n → (n = 0 ∨ 4294967296 ^ (n - 1) ≤ v.natAbs) → Run 60 [some (.ref w), some (.long (jL v)), none, x3, x4] [.int nI, .ref w] h' (0, 0) := by
    rintro h' n nI x3 x4 hf hn rfl hm hz
    have b0 := hw'.fr hf.1
    refine hR 20 39 _ _ _ _ _ _ rfl ?_
    refine ⟨b0.1, ?_⟩
    refine jcall (ct_22 G (by omega) h2 _) ?_
    refine ⟨b0.1, rfl, ⟨?_, n, by omega, ?_, ?_, ?_, hz⟩, ?_⟩
    · exact hw'.fr (h' := sI (sI h' w 1 (jI n)) w 2 (jI v.sign)) hf.1
    · rw [sI_k _ _ (by decide), sI_at]
    · rw [sI_at]
    · rw [sI_a _ (by omega), sI_a _ (by omega)]
      exact hm
    · exact (hf.sI (by simp) _ _).sI (by simp) _ _
  have r12 : ∀ sL : Int64, sL = jL v.natAbs → ∀ h0, h0 = h → Run 12 [some (.ref w), some (.long (jL v)), none, none, none] [.long sL] h0 (0, 0) := by
    rintro sL rfl h0 rfl
    refine hR 40 8 _ _ _ _ _ _ rfl ?_
    have hin0 : vp_in (jI 0) (hN h0 (w + 1)) := by rw [a4]; exact jI_in (by decide) (by decide) (by decide)
    have hin1 : vp_in (jI 1) (hN h0 (w + 1)) := by rw [a4]; exact jI_in (by decide) (by decide) (by decide)
    refine ⟨a1, _, a2, a3, hin0, a1, _, a2, a3, hin1, a1, _, a2, Or.inl a3, hin1, ?_⟩
    rw [jI_nat (by decide) (by decide), jI_nat (by decide) (by decide), jL_I, jL_ushr (K := 32) 32 (by decide) rfl, jL_I]
    have hlow : wd (jI (v.natAbs : Int)) = v.natAbs % 4294967296 := by
      rw [wd_jI]
      omega
    have hhigh : wd (jI ((v.natAbs : Int) % 18446744073709551616 / 2 ^ 32)) = v.natAbs / 4294967296 := by
      rw [wd_jI]
      omega
    generalize hx : jI (v.natAbs : Int) = lo at hlow
    generalize hy : jI ((v.natAbs : Int) % 18446744073709551616 / 2 ^ 32) = hi at hhigh
    have e1 : hI (sI (sI h0 (w + 1) (Int.toNat 0) lo) (w + 1) (Int.toNat 1) hi) (w + 1) (Int.toNat 1) = hi := sI_at _ _ _ _
    have e0 : hI (sI (sI h0 (w + 1) (Int.toNat 0) lo) (w + 1) (Int.toNat 1) hi) (w + 1) (Int.toNat 0) = lo := by
      rw [sI_k _ _ (by decide), sI_at]
    have hfr : FrI [w, w + 1] h0 (sI (sI h0 (w + 1) (Int.toNat 0) lo) (w + 1) (Int.toNat 1) hi) := ((FrI.refl _ h0).sI (by simp) _ _).sI (by simp) _ _
    generalize sI (sI h0 (w + 1) (Int.toNat 0) lo) (w + 1) (Int.toNat 1) hi = h' at e1 e0 hfr
    rw [e1]
    have b0 := hw'.fr hfr.1
    have m2 : mag (h'.1 (w + 1)) 2 = v.natAbs := by
      show 0 + wd (hI h' (w + 1) 0) * 4294967296 ^ 0 + wd (hI h' (w + 1) 1) * 4294967296 ^ 1 = _
      rw [show hI h' (w + 1) 0 = lo from e0, show hI h' (w + 1) 1 = hi from e1, hlow, hhigh]
      omega
    refine ⟨fun c => ⟨b0.1, _, b0.2.1, Or.inl b0.2.2.1, ?_, ?_⟩, fun c => ?_⟩
    · rw [b0.2.2.2.1]
      exact jI_in (by decide) (by decide) (by decide)
    · rw [jI_nat (by decide) (by decide), e0]
      have c' := wd_0.mp c
      rw [hhigh] at c'
      refine ⟨fun c2 => ?_, fun c2 => ?_⟩
      · have c2' := wd_0.mp c2
        rw [hlow] at c2'
        refine main h' 0 _ _ _ hfr (by decide) rfl ?_ (Or.inl rfl)
        show v.natAbs = 0
        omega
      · have c2' : wd lo ≠ 0 := fun z => c2 (wd_0.mpr z)
        rw [hlow] at c2'
        refine main h' 1 _ _ _ hfr (by decide) rfl ?_ (Or.inr ?_)
        · show v.natAbs = 0 + wd (hI h' (w + 1) 0) * 4294967296 ^ 0
          rw [show hI h' (w + 1) 0 = lo from e0, hlow]
          omega
        · show 1 ≤ v.natAbs
          omega
    · have c' : wd hi ≠ 0 := fun z => c (wd_0.mpr z)
      rw [hhigh] at c'
      refine main h' 2 _ _ _ hfr (by decide) rfl m2.symm (Or.inr ?_)
      show 4294967296 ≤ v.natAbs
      omega
  refine hR 20 0 _ _ _ _ _ _ rfl ?_
  refine ⟨fun c => ?_, fun c => ?_⟩
  · simp (disch := omega) only [mj_lcm, jI_lt, jI_le, jI_eq, jL_lt, jL_le, jL_eq, jI_lt0, jI_0le, jI_0lt, jI_le0, jI_eq0, jL_eq0, jI_L, jI_add, jI_sub, jI_mul, jI_neg, jL_add, jL_sub, jL_mul, jL_neg, jL_I, jI_div, jI_mod, jL_div, jL_mod] at c
    exact r12 _ (by rw [show (v.natAbs : Int) = v by omega]) h rfl
  · simp (disch := omega) only [mj_lcm, jI_lt, jI_le, jI_eq, jL_lt, jL_le, jL_eq, jI_lt0, jI_0le, jI_0lt, jI_le0, jI_eq0, jL_eq0, jI_L, jI_add, jI_sub, jI_mul, jI_neg, jL_add, jL_sub, jL_mul, jL_neg, jL_I, jI_div, jI_mod, jL_div, jL_mod] at c
    exact r12 _ (by rw [show (v.natAbs : Int) = -v by omega, jL_neg]) h rfl
/-- FormHouse$Whole.beRow([III)V; cuts at [] -/
def cd_39 : List mj_E := [(0, false, .aload_n 1, 1, 0, 0, 0, 0, 0),
  (1, false, .iconst 0, 1, 0, 0, 0, jI 0, 0),
  (2, false, .aload_n 0, 1, 0, 0, 0, 0, 0),
  (3, false, .getfield 9, 3, 5, 0, 2, 0, 0),
  (6, false, .iconst 0, 1, 0, 0, 0, jI 0, 0),
  (7, false, .iload_n 2, 1, 0, 0, 0, 0, 0),
  (8, false, .invokestatic 30, 3, 0, 0, 1, 0, 0),
  (11, false, .aload_n 0, 1, 0, 0, 0, 0, 0),
  (12, false, .iload_n 2, 1, 0, 0, 0, 0, 0),
  (13, false, .putfield 17, 3, 5, 1, 0, 0, 0),
  (16, false, .aload_n 0, 1, 0, 0, 0, 0, 0),
  (17, false, .iload_n 2, 1, 0, 0, 0, 0, 0),
  (18, false, .ifCond .ne 7, 3, 15, 0, 0, 0, 0),
  (21, false, .iconst 0, 1, 0, 0, 0, jI 0, 0),
  (22, false, .goto 4, 3, 16, 0, 0, 0, 0),
  (25, false, .iload_n 3, 1, 0, 0, 0, 0, 0),
  (26, false, .putfield 27, 3, 5, 2, 0, 0, 0),
  (29, false, .return_, 1, 0, 0, 0, 0, 0)]
def cx_39 : mj_X := (0, [], [])
theorem tb_39 : mj_tab (mj_mt 39) cx_39 cd_39 mj_mh [(0, 0, 0), (0, 0, 0), (0, 0, 0), (1097, 0, 0), (0, 0, 0), (0, 0, 0), (3186, 3188, 3187), (0, 0, 0), (0, 0, 0), (1104, 0, 0), (0, 0, 0), (0, 0, 0), (0, 0, 0), (0, 0, 0), (0, 0, 0), (0, 0, 0), (1108, 0, 0), (0, 0, 0)] = true := mj_tab_f (by decide +kernel)
/-- a row of words becomes a number -/
theorem ct_39 (G : mj_G) {h : mj_H} {w r : Nat} (hw : isW0 h w) (hr : hK h r = 1) (hrw : r ≠ w + 1) {n : Nat} (hn : n ≤ 1024) (hn2 : n ≤ hN h r) {s : Int} (hs : s = 1 ∨ s = -1 ∨ mag (h.1 r) n = 0) (hz : n = 0 ∨ 4294967296 ^ (n - 1) ≤ mag (h.1 r) n) : mj_Ct G (mj_mt 39) 0 0 [.ref w, .ref r, .int (jI n), .int (jI s)] h (fun o h' => o = .returned none ∧ isW h' w (s * mag (h.1 r) n) ∧ FrI [w, w + 1] h h') := by
  have hw' := hw
  obtain ⟨a1, a2, a3, a4, a5⟩ := hw
  refine mj_Ct_of mj_ok tb_39 rfl rfl (Nat.le_of_ble_eq_true rfl) (fun Run hR => ?_)
  refine hR 40 0 _ _ _ _ _ _ rfl ?_
  have hnc : (jI (n : Int)).toNatClampNeg = n := by rw [jI_nat (by omega) (by omega)]; rfl
  have h0c : (jI 0).toNatClampNeg = 0 := rfl
  refine ⟨a1, _, a2, ⟨a3, hr, fun e => hrw e.symm⟩, ⟨?_, ?_, ?_, ?_, ?_⟩, ?_⟩
  · decide
  · decide
  · simp (disch := omega) only [mj_lcm, jI_lt, jI_le, jI_eq, jL_lt, jL_le, jL_eq, jI_lt0, jI_0le, jI_0lt, jI_le0, jI_eq0, jL_eq0, jI_L, jI_add, jI_sub, jI_mul, jI_neg, jL_add, jL_sub, jL_mul, jL_neg, jL_I, jI_div, jI_mod, jL_div, jL_mod]
    omega
  · rw [hnc, h0c]
    omega
  · rw [hnc, h0c, a4]
    omega
  · rw [hnc, h0c]
    have hfr : FrI [w, w + 1] h (sW h (w + 1) (va_cpy (h.1 r) (h.1 (w + 1)) 0 0 n)) := (FrI.refl _ h).sW (by simp) _
    have hrow : ∀ k, k < n → (sW h (w + 1) (va_cpy (h.1 r) (h.1 (w + 1)) 0 0 n)).1 (w + 1) k = h.1 r k := by
      intro k hk
      show mj_row h.1 (w + 1) _ (w + 1) k = _
      rw [mj_row_at]
      simp [va_cpy, hk]
    generalize sW h (w + 1) (va_cpy (h.1 r) (h.1 (w + 1)) 0 0 n) = h' at hfr hrow
    have b0 := hw'.fr hfr.1
    have hmag : mag (h'.1 (w + 1)) n = mag (h.1 r) n := mag_congr hrow
    have fin : ∀ (sg : Int), sg = (s * (mag (h.1 r) n : Int)).sign → isW (sI (sI h' w 1 (jI n)) w 2 (jI sg)) w (s * mag (h.1 r) n) ∧ FrI [w, w + 1] h (sI (sI h' w 1 (jI n)) w 2 (jI sg)) := by
      rintro sg rfl
      have habs : (s * (mag (h.1 r) n : Int)).natAbs = mag (h.1 r) n := by
        rw [Int.natAbs_mul, Int.natAbs_natCast]
        rcases hs with z | z | z
        · rw [z]; exact Nat.one_mul _
        · rw [z]; exact Nat.one_mul _
        · rw [z, Nat.mul_zero]
      refine ⟨⟨hw'.fr (h' := sI (sI h' w 1 (jI n)) w 2 _) hfr.1, n, hn, ?_, ?_, ?_, ?_⟩, (hfr.sI (by simp) _ _).sI (by simp) _ _⟩
      · rw [sI_k _ _ (by decide), sI_at]
      · rw [sI_at]
      · rw [sI_a _ (by omega), sI_a _ (by omega), hmag, habs]
      · rw [habs]
        exact hz
    refine ⟨b0.1, fun c => ⟨b0.1, rfl, ?_⟩, fun c => ⟨b0.1, rfl, ?_⟩⟩
    · simp (disch := omega) only [mj_lcm, jI_lt, jI_le, jI_eq, jL_lt, jL_le, jL_eq, jI_lt0, jI_0le, jI_0lt, jI_le0, jI_eq0, jL_eq0, jI_L, jI_add, jI_sub, jI_mul, jI_neg, jL_add, jL_sub, jL_mul, jL_neg, jL_I, jI_div, jI_mod, jL_div, jL_mod] at c
      refine fin 0 ?_
      have : n = 0 := by omega
      subst this
      show (0 : Int) = (s * ((0 : Nat) : Int)).sign
      simp
    · simp (disch := omega) only [mj_lcm, jI_lt, jI_le, jI_eq, jL_lt, jL_le, jL_eq, jI_lt0, jI_0le, jI_0lt, jI_le0, jI_eq0, jL_eq0, jI_L, jI_add, jI_sub, jI_mul, jI_neg, jL_add, jL_sub, jL_mul, jL_neg, jL_I, jI_div, jI_mod, jL_div, jL_mod] at c
      refine fin s ?_
      have hpos : 0 < mag (h.1 r) n := by
        rcases hz with z | z
        · omega
        · exact Nat.lt_of_lt_of_le (Nat.pow_pos (by decide)) z
      rw [Int.sign_mul, Int.sign_natCast_of_ne_zero (by omega), Int.mul_one]
      rcases hs with z | z | z
      · rw [z]; rfl
      · rw [z]; rfl
      · omega
/-- the reckoner's cells -/
def isRk (h : mj_H) : Prop := hK h 3 = 12 ∧ hR h 3 0 = some 4 ∧ hK h 4 = 1 ∧ hN h 4 = 2048 ∧ hR h 3 2 = some 5 ∧ hK h 5 = 1 ∧ hN h 5 = 1025 ∧ hR h 3 3 = some 6 ∧ hK h 6 = 1 ∧ hN h 6 = 1024
theorem isRk.fr {h h' : mj_H} (a : isRk h) (e : h'.2 = h.2) : isRk h' := by
  obtain ⟨l, r⟩ := h
  obtain ⟨l', r'⟩ := h'
  have e' : r' = r := e
  subst e'
  exact a
/-- FormHouse$Reckoner.give(LFormHouse$Whole;I)V; cuts at [0, 34] -/
def cl_33_1 : List mj_E := (48, false, .invokespecial 27, 3, 36, 0, 0, 0, 0) ::
  (51, false, .athrow, 1, 0, 0, 0, 0, 0) ::
  (52, false, .aload_n 1, 1, 0, 0, 0, 0, 0) ::
  (53, false, .aload_n 0, 1, 0, 0, 0, 0, 0) ::
  (54, false, .getfield 9, 3, 2, 0, 2, 0, 0) ::
  (57, false, .aload_n 0, 1, 0, 0, 0, 0, 0) ::
  (58, false, .getfield 21, 3, 2, 1, 0, 0, 0) ::
  (61, false, .iload_n 2, 1, 0, 0, 0, 0, 0) ::
  (62, false, .invokevirtual 28, 3, 39, 3, 5, 0, 0) ::
  (65, false, .return_, 1, 0, 0, 0, 0, 0) ::
  []
def cl_33_0 : List mj_E := (0, true, .aload_n 0, 1, 0, 0, 0, 0, 0) ::
  (1, false, .getfield 21, 3, 2, 1, 0, 0, 0) ::
  (4, false, .ifCond .le 30, 3, 18, 0, 0, 0, 0) ::
  (7, false, .aload_n 0, 1, 0, 0, 0, 0, 0) ::
  (8, false, .getfield 9, 3, 2, 0, 2, 0, 0) ::
  (11, false, .aload_n 0, 1, 0, 0, 0, 0, 0) ::
  (12, false, .getfield 21, 3, 2, 1, 0, 0, 0) ::
  (15, false, .iconst 1, 1, 0, 0, 0, jI 1, 0) ::
  (16, false, .isub, 1, 0, 0, 0, 0, 0) ::
  (17, false, .iaload, 1, 0, 0, 0, 0, 0) ::
  (18, false, .ifCond .ne 16, 3, 18, 0, 0, 0, 0) ::
  (21, false, .aload_n 0, 1, 0, 0, 0, 0, 0) ::
  (22, false, .dup, 1, 0, 0, 0, 0, 0) ::
  (23, false, .getfield 21, 3, 2, 1, 0, 0, 0) ::
  (26, false, .iconst 1, 1, 0, 0, 0, jI 1, 0) ::
  (27, false, .isub, 1, 0, 0, 0, 0, 0) ::
  (28, false, .putfield 21, 3, 2, 1, 0, 0, 0) ::
  (31, false, .goto (-31), 3, 0, 0, 0, 0, 0) ::
  (34, true, .aload_n 0, 1, 0, 0, 0, 0, 0) ::
  (35, false, .getfield 21, 3, 2, 1, 0, 0, 0) ::
  (38, false, .sipush 1024, 3, 0, 0, 0, jI 1024, 0) ::
  (41, false, .if_icmp .le 11, 3, 26, 0, 0, 0, 0) ::
  (44, false, .new 25, 3, 78, 6, 27, 0, 0) ::
  (47, false, .dup, 1, 0, 0, 0, 0, 0) ::
  cl_33_1
def cd_33 : List mj_E := cl_33_0
def cx_33 : mj_X := (0, [], [])
theorem tb_33 : mj_tab (mj_mt 33) cx_33 cd_33 mj_mh [(0, 0, 0), (1051, 0, 0), (0, 0, 0), (0, 0, 0), (1050, 0, 0), (0, 0, 0), (1051, 0, 0), (0, 0, 0), (0, 0, 0), (0, 0, 0), (0, 0, 0), (0, 0, 0), (0, 0, 0), (1051, 0, 0), (0, 0, 0), (0, 0, 0), (1051, 0, 0), (0, 0, 0), (0, 0, 0), (1051, 0, 0), (0, 0, 0), (0, 0, 0), (3119, 3160, 1023), (0, 0, 0), (3160, 0, 0), (0, 0, 0), (0, 0, 0), (0, 0, 0), (1050, 0, 0), (0, 0, 0), (1051, 0, 0), (0, 0, 0), (3182, 0, 0), (0, 0, 0)] = true := mj_tab_f (by decide +kernel)
/-- what lies in the row is given to a number -/
theorem ct_33 (G : mj_G) {h : mj_H} {w : Nat} (hk : isRk h) (hw : isW0 h w) {n : Nat} (hn : n ≤ 2048) (hl : hI h 3 1 = jI n) (hv : mag (h.1 4) n < 4294967296 ^ 1024) {s : Int} (hs : s = 1 ∨ s = -1 ∨ mag (h.1 4) n = 0) : mj_Ct G (mj_mt 33) 0 0 [.ref 3, .ref w, .int (jI s)] h (fun o h' => o = .returned none ∧ isW h' w (s * mag (h.1 4) n) ∧ FrI [3, w, w + 1] h h') := by
  refine mj_Ct_of mj_ok tb_33 rfl rfl (Nat.le_of_ble_eq_true rfl) (fun Run hR => ?_)
  have r34 : ∀ (m : Nat), m ≤ n → mag (h.1 4) m = mag (h.1 4) n → (m = 0 ∨ wd (h.1 4 (m - 1)) ≠ 0) → ∀ h', h' = sI h 3 1 (jI m) → Run 34 [some (.ref 3), some (.ref w), some (.int (jI s))] [] h' (0, 0) := by
    rintro m hm he hz h' rfl
    have hfr : FrI [3] h (sI h 3 1 (jI m)) := (FrI.refl _ h).sI (by simp) _ _
    have hlen : hI (sI h 3 1 (jI m)) 3 1 = jI m := sI_at _ _ _ _
    have hrow : (sI h 3 1 (jI m)).1 4 = h.1 4 := sI_a _ (by decide) _ _
    generalize sI h 3 1 (jI m) = h' at hfr hlen hrow
    have k' := hk.fr hfr.1
    have w' := hw.fr hfr.1
    have hz2 : m = 0 ∨ 4294967296 ^ (m - 1) ≤ mag (h.1 4) m := by
      rcases hz with z | z
      · exact Or.inl z
      · rcases Nat.eq_zero_or_pos m with y | y
        · exact Or.inl y
        · right
          obtain ⟨q, rfl⟩ : ∃ q, m = q + 1 := ⟨m - 1, by omega⟩
          show 4294967296 ^ q ≤ mag (h.1 4) q + wd (h.1 4 q) * 4294967296 ^ q
          have : 1 * 4294967296 ^ q ≤ wd (h.1 4 q) * 4294967296 ^ q := Nat.mul_le_mul_right _ (Nat.pos_of_ne_zero z)
          omega
    have hm24 : m ≤ 1024 := by
      rcases hz2 with z | z
      · omega
      · rcases Nat.lt_or_ge 1024 m with y | y
        · have : 4294967296 ^ 1024 ≤ 4294967296 ^ (m - 1) := Nat.pow_le_pow_right (by decide) (by omega)
          omega
        · exact y
    refine hR 40 18 _ _ _ _ _ _ rfl ?_
    refine ⟨k'.1, ?_⟩
    rw [hlen]
    refine ⟨fun c => ?_, fun c => ?_⟩
    · refine ⟨k'.1, _, k'.2.1, k'.1, ?_⟩
      rw [hlen]
      have c39 := ct_39 G (h := h') (w := w) (r := 4) w' k'.2.2.1 (by have := hw.2.2.2.2; omega) (n := m) hm24 (by rw [k'.2.2.2.1]; omega) (s := s) (by rw [hrow, he]; exact hs) (by rw [hrow]; exact hz2)
      refine ⟨w'.1, jcallP c39 ?_⟩
      rintro o h2 ⟨rfl, q1, q2⟩
      refine ⟨rfl, ?_, ?_⟩
      · rw [hrow, he] at q1
        exact q1
      · exact (hfr.trans q2).mono (by simp)
    · simp (disch := omega) only [mj_lcm, jI_lt, jI_le, jI_eq, jL_lt, jL_le, jL_eq, jI_lt0, jI_0le, jI_0lt, jI_le0, jI_eq0, jL_eq0, jI_L, jI_add, jI_sub, jI_mul, jI_neg, jL_add, jL_sub, jL_mul, jL_neg, jL_I, jI_div, jI_mod, jL_div, jL_mod] at c
      omega
  have loop : ∀ (j m : Nat), m = j → m ≤ n → mag (h.1 4) m = mag (h.1 4) n → ∀ h', h' = sI h 3 1 (jI m) → Run 0 [some (.ref 3), some (.ref w), some (.int (jI s))] [] h' (0, 0) := by
    intro j
    induction j with
    | zero =>
      rintro m rfl hm he h' rfl
      refine hR 40 0 _ _ _ _ _ _ rfl ?_
      refine ⟨hk.1, ?_⟩
      rw [sI_at]
      refine ⟨fun c => ?_, fun c => absurd (by decide) c⟩
      exact r34 0 hm he (Or.inl rfl) _ rfl
    | succ j ih =>
      rintro m rfl hm he h' rfl
      refine hR 40 0 _ _ _ _ _ _ rfl ?_
      refine ⟨hk.1, ?_⟩
      rw [sI_at]
      refine ⟨fun c => ?_, fun c => ?_⟩
      · simp (disch := omega) only [mj_lcm, jI_lt, jI_le, jI_eq, jL_lt, jL_le, jL_eq, jI_lt0, jI_0le, jI_0lt, jI_le0, jI_eq0, jL_eq0, jI_L, jI_add, jI_sub, jI_mul, jI_neg, jL_add, jL_sub, jL_mul, jL_neg, jL_I, jI_div, jI_mod, jL_div, jL_mod] at c
        omega
      · refine ⟨hk.1, _, hk.2.1, hk.1, ?_⟩
        rw [sI_at]
        have ej : jI ((j + 1 : Nat) : Int) - jI 1 = jI (j : Nat) := by
          rw [jI_sub]
          congr 1
          omega
        refine ⟨Or.inl hk.2.2.1, ?_, ?_⟩
        · show vp_in (jI ((j + 1 : Nat) : Int) - jI 1) (hN h 4)
          rw [ej, hk.2.2.2.1]
          exact jI_in (by omega) (by omega) (by omega)
        · rw [ej, jI_nat (by omega) (by omega), show hI (sI h 3 1 (jI ((j + 1 : Nat) : Int))) 4 (Int.toNat (j : Nat)) = h.1 4 j from congrFun (sI_a _ (by decide) _ _) _]
          refine ⟨fun c2 => ⟨hk.1, hk.1, ?_⟩, fun c2 => ?_⟩
          · have c3 : wd (h.1 4 j) = 0 := wd_0.mp c2
            refine ih j rfl (by omega) ?_ _ ?_
            · rw [← he]
              show _ = mag (h.1 4) j + wd (h.1 4 j) * 4294967296 ^ j
              rw [c3]
              omega
            · rw [sI_at, ej, sI_sI]
          · refine r34 (j + 1) hm he (Or.inr (fun z => c2 (wd_0.mpr z))) _ rfl
  exact loop n n rfl (Nat.le_refl _) rfl h (by rw [← hl]; exact (sI_same h 3 1).symm)
