/-! the model: what is asked of classes and of lists -/
theorem cd0 (h : mj_H) : hI (sI h 1412 0 (jI 0)) 1412 0 ≤ 0 := by
  rw [sI_at]
  decide
theorem cd1 (h : mj_H) : ¬ hI (sI h 1412 0 (jI 1)) 1412 0 ≤ 0 := by
  rw [sI_at]
  decide
abbrev iCo (k : Nat) : Prop := k = 0
/-- an answer r of the model with the code k; its form may be another one -/
def jB (r : Int) (k : Int) (h : mj_H) : mj_Q := fun o h' => o = .returned (some (.int (jI r))) ∧ hI h' 1412 0 = jI k ∧ FrM iCo jF noT h h'
theorem FrM.code (h : mj_H) (v : Int32) : FrM iCo jF noT h (sI h 1412 0 v) := (FrM.refl iCo jF noT h).fI (k := 0) rfl _
theorem in_fld (G : mj_G) {h : mj_H} {n K : Nat} (hn : hI h 1412 K = jI n) (hn2 : n ≤ 100000) {i : Int} (hi : -2147483648 ≤ i ∧ i < 2147483648) : mj_Ct G (mj_mt 225) 0 0 [.long (jI i).toInt64, .long (jL 0), .long (hI h 1412 K - jI 1).toInt64] h (jR (.int (jI (if 0 ≤ i ∧ i < n then 1 else 0))) h) := by
  have e1 : (hI h 1412 K - jI 1).toInt64 = jL ((n : Int) - 1) := by rw [hn, jI_sub, jI_L (by omega) (by omega)]
  have e2 : (jI i).toInt64 = jL i := jI_L (by omega) (by omega)
  have c := ct_225 G (v := i) (a := 0) (b := (n : Int) - 1) (by omega) (by omega) (by omega) (by omega) (by omega) (by omega) h
  rw [← e1, ← e2] at c
  by_cases z : 0 ≤ i ∧ i < n
  · rw [if_pos z]
    rw [if_pos (show 0 ≤ i ∧ i ≤ (n : Int) - 1 by omega)] at c
    exact c
  · rw [if_neg z]
    rw [if_neg (show ¬ (0 ≤ i ∧ i ≤ (n : Int) - 1) by omega)] at c
    exact c
theorem in_two (G : mj_G) (h : mj_H) {i : Int} (hi : -2147483648 ≤ i ∧ i < 2147483648) : mj_Ct G (mj_mt 225) 0 0 [.long (jI i).toInt64, .long (jL 0), .long (jL 2)] h (jR (.int (jI (if 0 ≤ i ∧ i < 3 then 1 else 0))) h) := by
  have e2 : (jI i).toInt64 = jL i := jI_L (by omega) (by omega)
  have c := ct_225 G (v := i) (a := 0) (b := 2) (by omega) (by omega) (by omega) (by omega) (by omega) (by omega) h
  rw [← e2] at c
  by_cases z : 0 ≤ i ∧ i < 3
  · rw [if_pos z]
    rw [if_pos (show 0 ≤ i ∧ i ≤ 2 by omega)] at c
    exact c
  · rw [if_neg z]
    rw [if_neg (show ¬ (0 ≤ i ∧ i ≤ 2) by omega)] at c
    exact c
theorem nat_in {h : mj_H} {c N n : Nat} {i : Int} (hNc : hN h c = N) (hn : n ≤ N) (hN2 : N ≤ 100000) (z : 0 ≤ i ∧ i < n) : vp_in (jI i) (hN h c) ∧ (jI i).toNatClampNeg = i.toNat := by
  refine ⟨?_, jI_nat (by omega) (by omega)⟩
  rw [hNc]
  exact jI_in (by omega) (by omega) (by omega)
/-- FormHouseModel.isClass(I)Z; cuts at [] -/
def cd_264 : List mj_E := [(0, false, .iload_n 1, 1, 0, 0, 0, 0, 0),
  (1, false, .i2l, 1, 0, 0, 0, 0, 0),
  (2, false, .lconst 0, 1, 0, 0, 0, 0, jL 0),
  (3, false, .aload_n 0, 1, 0, 0, 0, 0, 0),
  (4, false, .getfield 169, 3, 17, 7, 0, 0, 0),
  (7, false, .iconst 1, 1, 0, 0, 0, jI 1, 0),
  (8, false, .isub, 1, 0, 0, 0, 0, 0),
  (9, false, .i2l, 1, 0, 0, 0, 0, 0),
  (10, false, .invokestatic 244, 3, 225, 3, 0, 0, 0),
  (13, false, .ireturn, 1, 0, 0, 0, 0, 0)]
def cx_264 : mj_X := (4, [], [])
theorem tb_264 : mj_tab (mj_mt 264) cx_264 cd_264 mj_mh [(0, 0, 0), (0, 0, 0), (0, 0, 0), (0, 0, 0), (7106, 0, 0), (0, 0, 0), (0, 0, 0), (0, 0, 0), (8044, 0, 0), (0, 0, 0)] = true := mj_tab_f (by decide +kernel)
theorem ct_264 (G : mj_G) {h : mj_H} (L : isLam h) {n : Nat} (hn : hI h 1412 7 = jI n) (hn2 : n ≤ 4096) {i : Int} (hi : -2147483648 ≤ i ∧ i < 2147483648) : mj_Ct G (mj_mt 264) 0 0 [.ref 1412, .int (jI i)] h (jR (.int (jI (if 0 ≤ i ∧ i < n then 1 else 0))) h) := by
  refine mj_Ct_of mj_ok tb_264 rfl rfl (Nat.le_of_ble_eq_true rfl) (fun Run hR => ?_)
  refine hR 60 0 _ _ _ _ _ _ rfl ?_
  refine ⟨L.K 1412 rfl, jcall (in_fld G hn (by omega) hi) ?_⟩
  by_cases z : 0 ≤ i ∧ i < n
  · rw [if_pos z]
    exact ⟨Or.inr rfl, jRe rfl⟩
  · rw [if_neg z]
    exact ⟨Or.inl rfl, jRe rfl⟩
/-- the odd primes of the discriminant -/
def isMp (h : mj_H) (ps : List Nat) : Prop := hI h 1412 17 = jI ps.length ∧ ps.length ≤ 8 ∧ ∀ i p, ps[i]? = some p → hJ h 1422 i = jL (p : Nat)
/-- FormHouseModel.prime(I)I; cuts at [] -/
def cd_262 : List mj_E := [(0, false, .aload_n 0, 1, 0, 0, 0, 0, 0),
  (1, false, .iload_n 1, 1, 0, 0, 0, 0, 0),
  (2, false, .i2l, 1, 0, 0, 0, 0, 0),
  (3, false, .lconst 0, 1, 0, 0, 0, 0, jL 0),
  (4, false, .aload_n 0, 1, 0, 0, 0, 0, 0),
  (5, false, .getfield 227, 3, 17, 17, 0, 0, 0),
  (8, false, .iconst 1, 1, 0, 0, 0, jI 1, 0),
  (9, false, .isub, 1, 0, 0, 0, 0, 0),
  (10, false, .i2l, 1, 0, 0, 0, 0, 0),
  (11, false, .invokestatic 244, 3, 225, 3, 0, 0, 0),
  (14, false, .ifCond .eq 7, 3, 13, 0, 0, 0, 0),
  (17, false, .iconst 0, 1, 0, 0, 0, jI 0, 0),
  (18, false, .goto 4, 3, 14, 0, 0, 0, 0),
  (21, false, .iconst 1, 1, 0, 0, 0, jI 1, 0),
  (22, false, .putfield 120, 3, 17, 0, 0, 0, 0),
  (25, false, .aload_n 0, 1, 0, 0, 0, 0, 0),
  (26, false, .getfield 120, 3, 17, 0, 0, 0, 0),
  (29, false, .ifCond .le 7, 3, 20, 0, 0, 0, 0),
  (32, false, .iconst 0, 1, 0, 0, 0, jI 0, 0),
  (33, false, .goto 10, 3, 25, 0, 0, 0, 0),
  (36, false, .aload_n 0, 1, 0, 0, 0, 0, 0),
  (37, false, .getfield 51, 3, 17, 18, 2, 0, 0),
  (40, false, .iload_n 1, 1, 0, 0, 0, 0, 0),
  (41, false, .laload, 1, 0, 0, 0, 0, 0),
  (42, false, .l2i, 1, 0, 0, 0, 0, 0),
  (43, false, .ireturn, 1, 0, 0, 0, 0, 0)]
def cx_262 : mj_X := (1, [], [])
theorem tb_262 : mj_tab (mj_mt 262) cx_262 cd_262 mj_mh [(0, 0, 0), (0, 0, 0), (0, 0, 0), (0, 0, 0), (0, 0, 0), (7116, 0, 0), (0, 0, 0), (0, 0, 0), (0, 0, 0), (8044, 0, 0), (0, 0, 0), (0, 0, 0), (0, 0, 0), (0, 0, 0), (7099, 0, 0), (0, 0, 0), (7099, 0, 0), (0, 0, 0), (0, 0, 0), (0, 0, 0), (0, 0, 0), (7117, 0, 0), (0, 0, 0), (0, 0, 0), (0, 0, 0), (0, 0, 0)] = true := mj_tab_f (by decide +kernel)
theorem ct_262 (G : mj_G) {h : mj_H} (L : isLam h) {ps : List Nat} (hp : isMp h ps) {i : Int} (hi : -2147483648 ≤ i ∧ i < 2147483648) : mj_Ct G (mj_mt 262) 0 0 [.ref 1412, .int (jI i)] h (fun o h' => (0 ≤ i ∧ i < ps.length → ∀ p, ps[i.toNat]? = some p → jB (p : Nat) 0 h o h') ∧ (¬ (0 ≤ i ∧ i < ps.length) → jB 0 1 h o h')) := by
  have k := L.K 1412 rfl
  refine mj_Ct_of mj_ok tb_262 rfl rfl (Nat.le_of_ble_eq_true rfl) (fun Run hR => ?_)
  refine hR 60 0 _ _ _ _ _ _ rfl ?_
  refine ⟨k, jcall (in_fld G hp.1 (by have := hp.2.1; omega) hi) ?_⟩
  by_cases z : 0 ≤ i ∧ i < ps.length
  · rw [if_pos z]
    obtain ⟨v, e⟩ := nat_in (h := h) (c := 1422) (i := i) (n := ps.length) (L.N 1421 rfl) hp.2.1 (by decide) z
    refine ⟨fun c => absurd c (by decide), fun c => ⟨k, k, fun c2 => ⟨k, _, L.R 1412 18 _ rfl, L.K 1422 rfl, v, ?_⟩, fun c2 => absurd (cd0 h) c2⟩⟩
    refine ⟨fun _ p hpp => ⟨?_, sI_at _ _ _ _, FrM.code h _⟩, fun q => absurd z q⟩
    rw [e, show hJ (sI h 1412 0 (jI 0)) 1422 i.toNat = hJ h 1422 i.toNat from rfl, hp.2.2 _ p hpp, jL_I]
  · rw [if_neg z]
    refine ⟨fun c => ⟨k, k, fun c2 => absurd c2 (cd1 h), fun c2 => ⟨fun q => absurd q z, fun _ => ⟨rfl, sI_at _ _ _ _, FrM.code h _⟩⟩⟩, fun c => absurd rfl c⟩
/-- FormHouseModel.teller(I)I; cuts at [] -/
def cd_278 : List mj_E := [(0, false, .aload_n 0, 1, 0, 0, 0, 0, 0),
  (1, false, .iload_n 1, 1, 0, 0, 0, 0, 0),
  (2, false, .i2l, 1, 0, 0, 0, 0, 0),
  (3, false, .lconst 0, 1, 0, 0, 0, 0, jL 0),
  (4, false, .aload_n 0, 1, 0, 0, 0, 0, 0),
  (5, false, .getfield 233, 3, 17, 31, 0, 0, 0),
  (8, false, .iconst 1, 1, 0, 0, 0, jI 1, 0),
  (9, false, .isub, 1, 0, 0, 0, 0, 0),
  (10, false, .i2l, 1, 0, 0, 0, 0, 0),
  (11, false, .invokestatic 244, 3, 225, 3, 0, 0, 0),
  (14, false, .ifCond .eq 7, 3, 13, 0, 0, 0, 0),
  (17, false, .iconst 0, 1, 0, 0, 0, jI 0, 0),
  (18, false, .goto 4, 3, 14, 0, 0, 0, 0),
  (21, false, .iconst 1, 1, 0, 0, 0, jI 1, 0),
  (22, false, .putfield 120, 3, 17, 0, 0, 0, 0),
  (25, false, .aload_n 0, 1, 0, 0, 0, 0, 0),
  (26, false, .getfield 120, 3, 17, 0, 0, 0, 0),
  (29, false, .ifCond .le 7, 3, 20, 0, 0, 0, 0),
  (32, false, .iconst 0, 1, 0, 0, 0, jI 0, 0),
  (33, false, .goto 9, 3, 24, 0, 0, 0, 0),
  (36, false, .aload_n 0, 1, 0, 0, 0, 0, 0),
  (37, false, .getfield 73, 3, 17, 32, 2, 0, 0),
  (40, false, .iload_n 1, 1, 0, 0, 0, 0, 0),
  (41, false, .iaload, 1, 0, 0, 0, 0, 0),
  (42, false, .ireturn, 1, 0, 0, 0, 0, 0)]
def cx_278 : mj_X := (1, [], [])
theorem tb_278 : mj_tab (mj_mt 278) cx_278 cd_278 mj_mh [(0, 0, 0), (0, 0, 0), (0, 0, 0), (0, 0, 0), (0, 0, 0), (7130, 0, 0), (0, 0, 0), (0, 0, 0), (0, 0, 0), (8044, 0, 0), (0, 0, 0), (0, 0, 0), (0, 0, 0), (0, 0, 0), (7099, 0, 0), (0, 0, 0), (7099, 0, 0), (0, 0, 0), (0, 0, 0), (0, 0, 0), (0, 0, 0), (7131, 0, 0), (0, 0, 0), (0, 0, 0), (0, 0, 0)] = true := mj_tab_f (by decide +kernel)
theorem ct_278 (G : mj_G) {h : mj_H} (L : isLam h) {ts : List Nat} (hn : hI h 1412 31 = jI ts.length) (hn2 : ts.length ≤ 4096) (ht : ∀ i t, ts[i]? = some t → hI h 1427 i = jI (t : Nat)) {i : Int} (hi : -2147483648 ≤ i ∧ i < 2147483648) : mj_Ct G (mj_mt 278) 0 0 [.ref 1412, .int (jI i)] h (fun o h' => (0 ≤ i ∧ i < ts.length → ∀ t, ts[i.toNat]? = some t → jB (t : Nat) 0 h o h') ∧ (¬ (0 ≤ i ∧ i < ts.length) → jB 0 1 h o h')) := by
  have k := L.K 1412 rfl
  refine mj_Ct_of mj_ok tb_278 rfl rfl (Nat.le_of_ble_eq_true rfl) (fun Run hR => ?_)
  refine hR 60 0 _ _ _ _ _ _ rfl ?_
  refine ⟨k, jcall (in_fld G hn (by omega) hi) ?_⟩
  by_cases z : 0 ≤ i ∧ i < ts.length
  · rw [if_pos z]
    obtain ⟨v, e⟩ := nat_in (h := h) (c := 1427) (i := i) (n := ts.length) (L.N 1426 rfl) hn2 (by decide) z
    refine ⟨fun c => absurd c (by decide), fun c => ⟨k, k, fun c2 => ⟨k, _, L.R 1412 32 _ rfl, Or.inl (L.K 1427 rfl), v, ?_⟩, fun c2 => absurd (cd0 h) c2⟩⟩
    refine ⟨fun _ p hpp => ⟨?_, sI_at _ _ _ _, FrM.code h _⟩, fun q => absurd z q⟩
    rw [e, show hI (sI h 1412 0 (jI 0)) 1427 i.toNat = hI h 1427 i.toNat from rfl, ht _ p hpp]
  · rw [if_neg z]
    refine ⟨fun c => ⟨k, k, fun c2 => absurd c2 (cd1 h), fun c2 => ⟨fun q => absurd q z, fun _ => ⟨rfl, sI_at _ _ _ _, FrM.code h _⟩⟩⟩, fun c => absurd rfl c⟩
/-- FormHouseModel.generator(I)I; cuts at [] -/
def cd_272 : List mj_E := [(0, false, .aload_n 0, 1, 0, 0, 0, 0, 0),
  (1, false, .iload_n 1, 1, 0, 0, 0, 0, 0),
  (2, false, .i2l, 1, 0, 0, 0, 0, 0),
  (3, false, .lconst 0, 1, 0, 0, 0, 0, jL 0),
  (4, false, .aload_n 0, 1, 0, 0, 0, 0, 0),
  (5, false, .getfield 208, 3, 17, 15, 0, 0, 0),
  (8, false, .iconst 1, 1, 0, 0, 0, jI 1, 0),
  (9, false, .isub, 1, 0, 0, 0, 0, 0),
  (10, false, .i2l, 1, 0, 0, 0, 0, 0),
  (11, false, .invokestatic 244, 3, 225, 3, 0, 0, 0),
  (14, false, .ifCond .eq 7, 3, 13, 0, 0, 0, 0),
  (17, false, .iconst 0, 1, 0, 0, 0, jI 0, 0),
  (18, false, .goto 4, 3, 14, 0, 0, 0, 0),
  (21, false, .iconst 1, 1, 0, 0, 0, jI 1, 0),
  (22, false, .putfield 120, 3, 17, 0, 0, 0, 0),
  (25, false, .aload_n 0, 1, 0, 0, 0, 0, 0),
  (26, false, .getfield 120, 3, 17, 0, 0, 0, 0),
  (29, false, .ifCond .le 7, 3, 20, 0, 0, 0, 0),
  (32, false, .iconst 0, 1, 0, 0, 0, jI 0, 0),
  (33, false, .goto 9, 3, 24, 0, 0, 0, 0),
  (36, false, .aload_n 0, 1, 0, 0, 0, 0, 0),
  (37, false, .getfield 48, 3, 17, 16, 2, 0, 0),
  (40, false, .iload_n 1, 1, 0, 0, 0, 0, 0),
  (41, false, .iaload, 1, 0, 0, 0, 0, 0),
  (42, false, .ireturn, 1, 0, 0, 0, 0, 0)]
def cx_272 : mj_X := (1, [], [])
theorem tb_272 : mj_tab (mj_mt 272) cx_272 cd_272 mj_mh [(0, 0, 0), (0, 0, 0), (0, 0, 0), (0, 0, 0), (0, 0, 0), (7114, 0, 0), (0, 0, 0), (0, 0, 0), (0, 0, 0), (8044, 0, 0), (0, 0, 0), (0, 0, 0), (0, 0, 0), (0, 0, 0), (7099, 0, 0), (0, 0, 0), (7099, 0, 0), (0, 0, 0), (0, 0, 0), (0, 0, 0), (0, 0, 0), (7115, 0, 0), (0, 0, 0), (0, 0, 0), (0, 0, 0)] = true := mj_tab_f (by decide +kernel)
theorem ct_272 (G : mj_G) {h : mj_H} (L : isLam h) {cnt : Nat} {st : gS cnt} (hs : isMs st h) {i : Int} (hi : -2147483648 ≤ i ∧ i < 2147483648) : mj_Ct G (mj_mt 272) 0 0 [.ref 1412, .int (jI i)] h (fun o h' => (0 ≤ i ∧ i < st.2.2.length → ∀ g, st.2.2[i.toNat]? = some g → jB (g.val : Nat) 0 h o h') ∧ (¬ (0 ≤ i ∧ i < st.2.2.length) → jB 0 1 h o h')) := by
  have k := L.K 1412 rfl
  have h8 := hs.2.2.1.2.1
  refine mj_Ct_of mj_ok tb_272 rfl rfl (Nat.le_of_ble_eq_true rfl) (fun Run hR => ?_)
  refine hR 60 0 _ _ _ _ _ _ rfl ?_
  refine ⟨k, jcall (in_fld G hs.1 (by omega) hi) ?_⟩
  by_cases z : 0 ≤ i ∧ i < st.2.2.length
  · rw [if_pos z]
    obtain ⟨v, e⟩ := nat_in (h := h) (c := 1421) (i := i) (n := st.2.2.length) (L.N 1420 rfl) h8 (by decide) z
    refine ⟨fun c => absurd c (by decide), fun c => ⟨k, k, fun c2 => ⟨k, _, L.R 1412 16 _ rfl, Or.inl (L.K 1421 rfl), v, ?_⟩, fun c2 => absurd (cd0 h) c2⟩⟩
    refine ⟨fun _ p hpp => ⟨?_, sI_at _ _ _ _, FrM.code h _⟩, fun q => absurd z q⟩
    rw [e, show hI (sI h 1412 0 (jI 0)) 1421 i.toNat = hI h 1421 i.toNat from rfl, hs.2.2.2.2.2.2 _ p hpp]
  · rw [if_neg z]
    refine ⟨fun c => ⟨k, k, fun c2 => absurd c2 (cd1 h), fun c2 => ⟨fun q => absurd q z, fun _ => ⟨rfl, sI_at _ _ _ _, FrM.code h _⟩⟩⟩, fun c => absurd rfl c⟩
/-- FormHouseModel.form(I)I; cuts at [] -/
def cl_274_1 : List mj_E := (48, false, .aload_n 0, 1, 0, 0, 0, 0, 0) ::
  (49, false, .getfield 285, 3, 17, 21, 1, 0, 0) ::
  (52, false, .goto 7, 3, 29, 0, 0, 0, 0) ::
  (55, false, .aload_n 0, 1, 0, 0, 0, 0, 0) ::
  (56, false, .getfield 58, 3, 17, 22, 1, 0, 0) ::
  (59, false, .l2i, 1, 0, 0, 0, 0, 0) ::
  (60, false, .ireturn, 1, 0, 0, 0, 0, 0) ::
  []
def cl_274_0 : List mj_E := (0, false, .aload_n 0, 1, 0, 0, 0, 0, 0) ::
  (1, false, .iload_n 1, 1, 0, 0, 0, 0, 0) ::
  (2, false, .i2l, 1, 0, 0, 0, 0, 0) ::
  (3, false, .lconst 0, 1, 0, 0, 0, 0, jL 0) ::
  (4, false, .ldc2_w 130, 3, 0, 0, 0, 0, jL 2) ::
  (7, false, .invokestatic 244, 3, 225, 3, 0, 0, 0) ::
  (10, false, .ifCond .eq 7, 3, 9, 0, 0, 0, 0) ::
  (13, false, .iconst 0, 1, 0, 0, 0, jI 0, 0) ::
  (14, false, .goto 4, 3, 10, 0, 0, 0, 0) ::
  (17, false, .iconst 1, 1, 0, 0, 0, jI 1, 0) ::
  (18, false, .putfield 120, 3, 17, 0, 0, 0, 0) ::
  (21, false, .aload_n 0, 1, 0, 0, 0, 0, 0) ::
  (22, false, .getfield 120, 3, 17, 0, 0, 0, 0) ::
  (25, false, .ifCond .le 7, 3, 16, 0, 0, 0, 0) ::
  (28, false, .iconst 0, 1, 0, 0, 0, jI 0, 0) ::
  (29, false, .goto 31, 3, 30, 0, 0, 0, 0) ::
  (32, false, .iload_n 1, 1, 0, 0, 0, 0, 0) ::
  (33, false, .ifCond .ne 10, 3, 21, 0, 0, 0, 0) ::
  (36, false, .aload_n 0, 1, 0, 0, 0, 0, 0) ::
  (37, false, .getfield 55, 3, 17, 20, 1, 0, 0) ::
  (40, false, .goto 19, 3, 29, 0, 0, 0, 0) ::
  (43, false, .iload_n 1, 1, 0, 0, 0, 0, 0) ::
  (44, false, .iconst 1, 1, 0, 0, 0, jI 1, 0) ::
  (45, false, .if_icmp .ne 10, 3, 27, 0, 0, 0, 0) ::
  cl_274_1
def cd_274 : List mj_E := cl_274_0
def cx_274 : mj_X := (1, [], [])
theorem tb_274 : mj_tab (mj_mt 274) cx_274 cd_274 mj_mh [(0, 0, 0), (0, 0, 0), (0, 0, 0), (0, 0, 0), (6218, 0, 0), (8044, 0, 0), (0, 0, 0), (0, 0, 0), (0, 0, 0), (0, 0, 0), (7099, 0, 0), (0, 0, 0), (7099, 0, 0), (0, 0, 0), (0, 0, 0), (0, 0, 0), (0, 0, 0), (0, 0, 0), (0, 0, 0), (7119, 0, 0), (0, 0, 0), (0, 0, 0), (0, 0, 0), (0, 0, 0), (0, 0, 0), (7120, 0, 0), (0, 0, 0), (0, 0, 0), (7121, 0, 0), (0, 0, 0), (0, 0, 0)] = true := mj_tab_f (by decide +kernel)
theorem ct_274 (G : mj_G) {h : mj_H} (L : isLam h) {f : Fm} (h0 : hJ h 1412 20 = jL f.1) (h1 : hJ h 1412 21 = jL f.2.1) (h2 : hJ h 1412 22 = jL f.2.2) {i : Int} (hi : -2147483648 ≤ i ∧ i < 2147483648) : mj_Ct G (mj_mt 274) 0 0 [.ref 1412, .int (jI i)] h (fun o h' => (0 ≤ i ∧ i < 3 → jB (if i = 0 then f.1 else if i = 1 then f.2.1 else f.2.2) 0 h o h') ∧ (¬ (0 ≤ i ∧ i < 3) → jB 0 1 h o h')) := by
  have k := L.K 1412 rfl
  refine mj_Ct_of mj_ok tb_274 rfl rfl (Nat.le_of_ble_eq_true rfl) (fun Run hR => ?_)
  refine hR 60 0 _ _ _ _ _ _ rfl ?_
  refine jcall (in_two G h hi) ?_
  by_cases z : 0 ≤ i ∧ i < 3
  · rw [if_pos z]
    refine ⟨fun c => absurd c (by decide), fun c => ⟨k, k, fun c2 => ⟨fun c3 => ⟨k, ?_⟩, fun c3 => ⟨fun c4 => ⟨k, ?_⟩, fun c4 => ⟨k, ?_⟩⟩⟩, fun c2 => absurd (cd0 h) c2⟩⟩
    · simp (disch := omega) only [mj_lcm, jI_lt, jI_le, jI_eq, jL_lt, jL_le, jL_eq, jI_lt0, jI_0le, jI_0lt, jI_le0, jI_eq0, jL_eq0, jI_L, jI_add, jI_sub, jI_mul, jI_neg, jL_add, jL_sub, jL_mul, jL_neg, jL_I, jI_div, jI_mod, jL_div, jL_mod] at c3
      refine ⟨fun _ => ⟨?_, sI_at _ _ _ _, FrM.code h _⟩, fun q => absurd z q⟩
      rw [if_pos c3, show hJ (sI h 1412 0 (jI 0)) 1412 20 = hJ h 1412 20 from rfl, h0, jL_I]
    · simp (disch := omega) only [mj_lcm, jI_lt, jI_le, jI_eq, jL_lt, jL_le, jL_eq, jI_lt0, jI_0le, jI_0lt, jI_le0, jI_eq0, jL_eq0, jI_L, jI_add, jI_sub, jI_mul, jI_neg, jL_add, jL_sub, jL_mul, jL_neg, jL_I, jI_div, jI_mod, jL_div, jL_mod] at c3 c4
      refine ⟨fun _ => ⟨?_, sI_at _ _ _ _, FrM.code h _⟩, fun q => absurd z q⟩
      rw [if_neg c3, if_pos c4, show hJ (sI h 1412 0 (jI 0)) 1412 21 = hJ h 1412 21 from rfl, h1, jL_I]
    · simp (disch := omega) only [mj_lcm, jI_lt, jI_le, jI_eq, jL_lt, jL_le, jL_eq, jI_lt0, jI_0le, jI_0lt, jI_le0, jI_eq0, jL_eq0, jI_L, jI_add, jI_sub, jI_mul, jI_neg, jL_add, jL_sub, jL_mul, jL_neg, jL_I, jI_div, jI_mod, jL_div, jL_mod] at c3 c4
      refine ⟨fun _ => ⟨?_, sI_at _ _ _ _, FrM.code h _⟩, fun q => absurd z q⟩
      rw [if_neg c3, if_neg c4, show hJ (sI h 1412 0 (jI 0)) 1412 22 = hJ h 1412 22 from rfl, h2, jL_I]
  · rw [if_neg z]
    refine ⟨fun c => ⟨k, k, fun c2 => absurd c2 (cd1 h), fun c2 => ⟨fun q => absurd q z, fun _ => ⟨rfl, sI_at _ _ _ _, FrM.code h _⟩⟩⟩, fun c => absurd rfl c⟩
/-- FormHouseModel.divisor(I)I; cuts at [] -/
def cd_275 : List mj_E := [(0, false, .aload_n 0, 1, 0, 0, 0, 0, 0),
  (1, false, .iload_n 1, 1, 0, 0, 0, 0, 0),
  (2, false, .invokevirtual 454, 3, 276, 1, 17, 0, 0),
  (5, false, .ifCond .eq 12, 3, 9, 0, 0, 0, 0),
  (8, false, .aload_n 0, 1, 0, 0, 0, 0, 0),
  (9, false, .getfield 79, 3, 17, 36, 2, 0, 0),
  (12, false, .iload_n 1, 1, 0, 0, 0, 0, 0),
  (13, false, .iaload, 1, 0, 0, 0, 0, 0),
  (14, false, .goto 4, 3, 10, 0, 0, 0, 0),
  (17, false, .iconst 0, 1, 0, 0, 0, jI 0, 0),
  (18, false, .ireturn, 1, 0, 0, 0, 0, 0)]
def cx_275 : mj_X := (1, [], [])
theorem tb_275 : mj_tab (mj_mt 275) cx_275 cd_275 mj_mh [(0, 0, 0), (0, 0, 0), (9016, 0, 0), (0, 0, 0), (0, 0, 0), (7135, 0, 0), (0, 0, 0), (0, 0, 0), (0, 0, 0), (0, 0, 0), (0, 0, 0)] = true := mj_tab_f (by decide +kernel)
theorem ct_275 (G : mj_G) {h : mj_H} (L : isLam h) {f : Nat} (hf : hI h 1412 35 = jI f) (hf2 : f ≤ 256) {i : Int} (hi : -2147483648 ≤ i ∧ i < 2147483648) {D : Nat → Int} (hD : ∀ j, j < f → hI h 1429 j = jI (D j)) : mj_Ct G (mj_mt 275) 0 0 [.ref 1412, .int (jI i)] h (fun o h' => (0 ≤ i ∧ i < f → jB (D i.toNat) 0 h o h') ∧ (¬ (0 ≤ i ∧ i < f) → jB 0 1 h o h')) := by
  have k := L.K 1412 rfl
  refine mj_Ct_of mj_ok tb_275 rfl rfl (Nat.le_of_ble_eq_true rfl) (fun Run hR => ?_)
  refine hR 60 0 _ _ _ _ _ _ rfl ?_
  refine ⟨k, jcallW (ct_276 G L hf hf2 hi) ?_⟩
  by_cases z : 0 ≤ i ∧ i < f
  · rw [if_pos z, if_pos z]
    obtain ⟨v, e⟩ := nat_in (h := h) (c := 1429) (i := i) (n := f) (L.N 1428 rfl) hf2 (by decide) z
    refine ⟨fun c => absurd c (by decide), fun c => ⟨k, _, L.R 1412 36 _ rfl, Or.inl (L.K 1429 rfl), v, ?_⟩⟩
    refine ⟨fun _ => ⟨?_, sI_at _ _ _ _, FrM.code h _⟩, fun q => absurd z q⟩
    rw [e, show hI (sI h 1412 0 (jI 0)) 1429 i.toNat = hI h 1429 i.toNat from rfl, hD _ (by omega)]
  · rw [if_neg z, if_neg z]
    exact ⟨fun c => ⟨fun q => absurd q z, fun _ => ⟨rfl, sI_at _ _ _ _, FrM.code h _⟩⟩, fun c => absurd rfl c⟩
/-- FormHouseModel.root(I)I; cuts at [] -/
def cd_277 : List mj_E := [(0, false, .aload_n 0, 1, 0, 0, 0, 0, 0),
  (1, false, .iload_n 1, 1, 0, 0, 0, 0, 0),
  (2, false, .invokevirtual 454, 3, 276, 1, 17, 0, 0),
  (5, false, .ifCond .eq 12, 3, 9, 0, 0, 0, 0),
  (8, false, .aload_n 0, 1, 0, 0, 0, 0, 0),
  (9, false, .getfield 82, 3, 17, 37, 2, 0, 0),
  (12, false, .iload_n 1, 1, 0, 0, 0, 0, 0),
  (13, false, .iaload, 1, 0, 0, 0, 0, 0),
  (14, false, .goto 4, 3, 10, 0, 0, 0, 0),
  (17, false, .iconst 0, 1, 0, 0, 0, jI 0, 0),
  (18, false, .ireturn, 1, 0, 0, 0, 0, 0)]
def cx_277 : mj_X := (1, [], [])
theorem tb_277 : mj_tab (mj_mt 277) cx_277 cd_277 mj_mh [(0, 0, 0), (0, 0, 0), (9016, 0, 0), (0, 0, 0), (0, 0, 0), (7136, 0, 0), (0, 0, 0), (0, 0, 0), (0, 0, 0), (0, 0, 0), (0, 0, 0)] = true := mj_tab_f (by decide +kernel)
theorem ct_277 (G : mj_G) {h : mj_H} (L : isLam h) {f : Nat} (hf : hI h 1412 35 = jI f) (hf2 : f ≤ 256) {i : Int} (hi : -2147483648 ≤ i ∧ i < 2147483648) {D : Nat → Int} (hD : ∀ j, j < f → hI h 1430 j = jI (D j)) : mj_Ct G (mj_mt 277) 0 0 [.ref 1412, .int (jI i)] h (fun o h' => (0 ≤ i ∧ i < f → jB (D i.toNat) 0 h o h') ∧ (¬ (0 ≤ i ∧ i < f) → jB 0 1 h o h')) := by
  have k := L.K 1412 rfl
  refine mj_Ct_of mj_ok tb_277 rfl rfl (Nat.le_of_ble_eq_true rfl) (fun Run hR => ?_)
  refine hR 60 0 _ _ _ _ _ _ rfl ?_
  refine ⟨k, jcallW (ct_276 G L hf hf2 hi) ?_⟩
  by_cases z : 0 ≤ i ∧ i < f
  · rw [if_pos z, if_pos z]
    obtain ⟨v, e⟩ := nat_in (h := h) (c := 1430) (i := i) (n := f) (L.N 1429 rfl) hf2 (by decide) z
    refine ⟨fun c => absurd c (by decide), fun c => ⟨k, _, L.R 1412 37 _ rfl, Or.inl (L.K 1430 rfl), v, ?_⟩⟩
    refine ⟨fun _ => ⟨?_, sI_at _ _ _ _, FrM.code h _⟩, fun q => absurd z q⟩
    rw [e, show hI (sI h 1412 0 (jI 0)) 1430 i.toNat = hI h 1430 i.toNat from rfl, hD _ (by omega)]
  · rw [if_neg z, if_neg z]
    exact ⟨fun c => ⟨fun q => absurd q z, fun _ => ⟨rfl, sI_at _ _ _ _, FrM.code h _⟩⟩, fun c => absurd rfl c⟩
section
variable {d w : Int} {n : Nat} {A : Nat → pI} {nxt : Nat → Nat} {cls : Nat → Int} {cnt : Nat} {nm : Nat → Nat}
/-- FormHouseModel.order(I)I; cuts at [] -/
def cd_271 : List mj_E := [(0, false, .aload_n 0, 1, 0, 0, 0, 0, 0),
  (1, false, .aload_n 0, 1, 0, 0, 0, 0, 0),
  (2, false, .iload_n 1, 1, 0, 0, 0, 0, 0),
  (3, false, .invokevirtual 448, 3, 264, 1, 17, 0, 0),
  (6, false, .ifCond .eq 7, 3, 7, 0, 0, 0, 0),
  (9, false, .iconst 0, 1, 0, 0, 0, jI 0, 0),
  (10, false, .goto 4, 3, 8, 0, 0, 0, 0),
  (13, false, .iconst 1, 1, 0, 0, 0, jI 1, 0),
  (14, false, .putfield 120, 3, 17, 0, 0, 0, 0),
  (17, false, .aload_n 0, 1, 0, 0, 0, 0, 0),
  (18, false, .getfield 120, 3, 17, 0, 0, 0, 0),
  (21, false, .ifCond .le 7, 3, 14, 0, 0, 0, 0),
  (24, false, .iconst 0, 1, 0, 0, 0, jI 0, 0),
  (25, false, .goto 9, 3, 18, 0, 0, 0, 0),
  (28, false, .aload_n 0, 1, 0, 0, 0, 0, 0),
  (29, false, .getfield 34, 3, 17, 9, 2, 0, 0),
  (32, false, .iload_n 1, 1, 0, 0, 0, 0, 0),
  (33, false, .iaload, 1, 0, 0, 0, 0, 0),
  (34, false, .ireturn, 1, 0, 0, 0, 0, 0)]
def cx_271 : mj_X := (1, [], [])
theorem tb_271 : mj_tab (mj_mt 271) cx_271 cd_271 mj_mh [(0, 0, 0), (0, 0, 0), (0, 0, 0), (8208, 0, 0), (0, 0, 0), (0, 0, 0), (0, 0, 0), (0, 0, 0), (7099, 0, 0), (0, 0, 0), (7099, 0, 0), (0, 0, 0), (0, 0, 0), (0, 0, 0), (0, 0, 0), (7108, 0, 0), (0, 0, 0), (0, 0, 0), (0, 0, 0)] = true := mj_tab_f (by decide +kernel)
theorem ct_271 (G : mj_G) {h : mj_H} (L : isLam h) (T : isTF d w n A nxt cls cnt nm) (hT : isMT h d w n A cls cnt nm) {o : Fin cnt → Nat} (hG : isMg T o h) {i : Int} (hi : -2147483648 ≤ i ∧ i < 2147483648) : mj_Ct G (mj_mt 271) 0 0 [.ref 1412, .int (jI i)] h (fun oc h' => (∀ z : 0 ≤ i ∧ i < cnt, jB (o ⟨i.toNat, by omega⟩) 0 h oc h') ∧ (¬ (0 ≤ i ∧ i < cnt) → jB 0 1 h oc h')) := by
  have k := L.K 1412 rfl
  have hcnt := T.1.2.2.2.2.2.1
  refine mj_Ct_of mj_ok tb_271 rfl rfl (Nat.le_of_ble_eq_true rfl) (fun Run hR => ?_)
  refine hR 60 0 _ _ _ _ _ _ rfl ?_
  refine ⟨k, jcall (ct_264 G L hT.2.1.1 hcnt hi) ?_⟩
  by_cases z : 0 ≤ i ∧ i < cnt
  · rw [if_pos z]
    obtain ⟨v, e⟩ := nat_in (h := h) (c := 1417) (i := i) (n := cnt) (L.N 1416 rfl) hcnt (by decide) z
    refine ⟨fun c => absurd c (by decide), fun c => ⟨k, k, fun c2 => ⟨k, _, L.R 1412 9 _ rfl, Or.inl (L.K 1417 rfl), v, ?_⟩, fun c2 => absurd (cd0 h) c2⟩⟩
    refine ⟨fun _ => ⟨?_, sI_at _ _ _ _, FrM.code h _⟩, fun q => absurd z q⟩
    rw [e, show hI (sI h 1412 0 (jI 0)) 1417 i.toNat = hI h 1417 i.toNat from rfl, hG.2 ⟨i.toNat, by omega⟩]
  · rw [if_neg z]
    refine ⟨fun c => ⟨k, k, fun c2 => absurd c2 (cd1 h), fun c2 => ⟨fun q => absurd q z, fun _ => ⟨rfl, sI_at _ _ _ _, FrM.code h _⟩⟩⟩, fun c => absurd rfl c⟩
/-- FormHouseModel.inverse(I)I; cuts at [28] -/
def cd_268 : List mj_E := [(0, false, .aload_n 0, 1, 0, 0, 0, 0, 0),
  (1, false, .aload_n 0, 1, 0, 0, 0, 0, 0),
  (2, false, .iload_n 1, 1, 0, 0, 0, 0, 0),
  (3, false, .invokevirtual 448, 3, 264, 1, 17, 0, 0),
  (6, false, .ifCond .eq 7, 3, 7, 0, 0, 0, 0),
  (9, false, .iconst 0, 1, 0, 0, 0, jI 0, 0),
  (10, false, .goto 4, 3, 8, 0, 0, 0, 0),
  (13, false, .iconst 1, 1, 0, 0, 0, jI 1, 0),
  (14, false, .putfield 120, 3, 17, 0, 0, 0, 0),
  (17, false, .aload_n 0, 1, 0, 0, 0, 0, 0),
  (18, false, .getfield 120, 3, 17, 0, 0, 0, 0),
  (21, false, .ifCond .le 7, 3, 14, 0, 0, 0, 0),
  (24, false, .iconst 0, 1, 0, 0, 0, jI 0, 0),
  (25, false, .goto 8, 3, 17, 0, 0, 0, 0),
  (28, true, .aload_n 0, 1, 0, 0, 0, 0, 0),
  (29, false, .iload_n 1, 1, 0, 0, 0, 0, 0),
  (30, false, .invokevirtual 451, 3, 269, 1, 17, 0, 0),
  (33, false, .ireturn, 1, 0, 0, 0, 0, 0)]
def cx_268 : mj_X := (1, [], [])
theorem tb_268 : mj_tab (mj_mt 268) cx_268 cd_268 mj_mh [(0, 0, 0), (0, 0, 0), (0, 0, 0), (8208, 0, 0), (0, 0, 0), (0, 0, 0), (0, 0, 0), (0, 0, 0), (7099, 0, 0), (0, 0, 0), (7099, 0, 0), (0, 0, 0), (0, 0, 0), (0, 0, 0), (0, 0, 0), (0, 0, 0), (8228, 0, 0), (0, 0, 0)] = true := mj_tab_f (by decide +kernel)
theorem ct_268 (G : mj_G) {h : mj_H} (L : isLam h) (T : isTF d w n A nxt cls cnt nm) (hw : wdP d w) (hT : isMT h d w n A cls cnt nm) {i : Int} (hi : -2147483648 ≤ i ∧ i < 2147483648) : mj_Ct G (mj_mt 268) 0 0 [.ref 1412, .int (jI i)] h (fun oc h' => (∀ z : 0 ≤ i ∧ i < cnt, ∃ y : Fin cnt, mulC T ⟨i.toNat, by omega⟩ y = oneC T ∧ jB y.val 0 h oc h') ∧ (¬ (0 ≤ i ∧ i < cnt) → jB 0 1 h oc h')) := by
  have k := L.K 1412 rfl
  have hcnt := T.1.2.2.2.2.2.1
  have F0 := FrM.code h (jI 0)
  have L0 := F0.lay L
  have hT0 := hT.M F0 ⟨by omega, by omega⟩ ⟨by omega, by omega⟩ (fun _ _ z => z)
  refine mj_Ct_of mj_ok tb_268 rfl rfl (Nat.le_of_ble_eq_true rfl) (fun Run hR => ?_)
  refine hR 60 0 _ _ _ _ _ _ rfl ?_
  refine ⟨k, jcall (ct_264 G L hT.2.1.1 hcnt hi) ?_⟩
  by_cases z : 0 ≤ i ∧ i < cnt
  · rw [if_pos z]
    have r28 : Run 28 [some (.ref 1412), some (.int (jI i))] [] (sI h 1412 0 (jI 0)) (0, 0) := by
      have c269 := ct_269 G L0 T hw hT0 ⟨i.toNat, by omega⟩
      rw [show (((⟨i.toNat, by omega⟩ : Fin cnt).val : Nat) : Int) = i by show ((i.toNat : Nat) : Int) = i; omega] at c269
      refine hR 60 14 _ _ _ _ _ _ rfl ?_
      refine ⟨L0.K 1412 rfl, jcallP c269 ?_⟩
      rintro oc h3 ⟨⟨y, y1, rfl⟩, F3⟩
      refine ⟨fun _ => ⟨y, y1, rfl, (F3.2.2.1 0 (fun q => q)).trans (sI_at _ _ _ _), F0.trans (F3.mono (fun _ q => q.elim) (fun _ q => q) (fun _ q => q))⟩, fun q => absurd z q⟩
    refine ⟨fun c => absurd c (by decide), fun c => ⟨k, k, fun c2 => r28, fun c2 => absurd (cd0 h) c2⟩⟩
  · rw [if_neg z]
    refine ⟨fun c => ⟨k, k, fun c2 => absurd c2 (cd1 h), fun c2 => ⟨fun q => absurd q z, fun _ => ⟨rfl, sI_at _ _ _ _, FrM.code h _⟩⟩⟩, fun c => absurd rfl c⟩
/-- FormHouseModel.product(II)I; cuts at [22, 36] -/
def cd_267 : List mj_E := [(0, false, .aload_n 0, 1, 0, 0, 0, 0, 0),
  (1, false, .aload_n 0, 1, 0, 0, 0, 0, 0),
  (2, false, .iload_n 1, 1, 0, 0, 0, 0, 0),
  (3, false, .invokevirtual 448, 3, 264, 1, 17, 0, 0),
  (6, false, .ifCond .eq 15, 3, 11, 0, 0, 0, 0),
  (9, false, .aload_n 0, 1, 0, 0, 0, 0, 0),
  (10, false, .iload_n 2, 1, 0, 0, 0, 0, 0),
  (11, false, .invokevirtual 448, 3, 264, 1, 17, 0, 0),
  (14, false, .ifCond .eq 7, 3, 11, 0, 0, 0, 0),
  (17, false, .iconst 0, 1, 0, 0, 0, jI 0, 0),
  (18, false, .goto 4, 3, 12, 0, 0, 0, 0),
  (21, false, .iconst 1, 1, 0, 0, 0, jI 1, 0),
  (22, true, .putfield 120, 3, 17, 0, 0, 0, 0),
  (25, false, .aload_n 0, 1, 0, 0, 0, 0, 0),
  (26, false, .getfield 120, 3, 17, 0, 0, 0, 0),
  (29, false, .ifCond .le 7, 3, 18, 0, 0, 0, 0),
  (32, false, .iconst 0, 1, 0, 0, 0, jI 0, 0),
  (33, false, .goto 9, 3, 22, 0, 0, 0, 0),
  (36, true, .aload_n 0, 1, 0, 0, 0, 0, 0),
  (37, false, .iload_n 1, 1, 0, 0, 0, 0, 0),
  (38, false, .iload_n 2, 1, 0, 0, 0, 0, 0),
  (39, false, .invokevirtual 204, 3, 204, 2, 17, 0, 0),
  (42, false, .ireturn, 1, 0, 0, 0, 0, 0)]
def cx_267 : mj_X := (1, [], [])
theorem tb_267 : mj_tab (mj_mt 267) cx_267 cd_267 mj_mh [(0, 0, 0), (0, 0, 0), (0, 0, 0), (8208, 0, 0), (0, 0, 0), (0, 0, 0), (0, 0, 0), (8208, 0, 0), (0, 0, 0), (0, 0, 0), (0, 0, 0), (0, 0, 0), (7099, 0, 0), (0, 0, 0), (7099, 0, 0), (0, 0, 0), (0, 0, 0), (0, 0, 0), (0, 0, 0), (0, 0, 0), (0, 0, 0), (7022, 0, 0), (0, 0, 0)] = true := mj_tab_f (by decide +kernel)
theorem ct_267 (G : mj_G) {h : mj_H} (L : isLam h) (T : isTF d w n A nxt cls cnt nm) (hw : wdP d w) (hfr : isFr d A cnt nm) (hT : isMT h d w n A cls cnt nm) {i j : Int} (hi : -2147483648 ≤ i ∧ i < 2147483648) (hj : -2147483648 ≤ j ∧ j < 2147483648) : mj_Ct G (mj_mt 267) 0 0 [.ref 1412, .int (jI i), .int (jI j)] h (fun oc h' => (∀ (z : 0 ≤ i ∧ i < cnt) (z' : 0 ≤ j ∧ j < cnt), jB (mulC T ⟨i.toNat, by omega⟩ ⟨j.toNat, by omega⟩).val 0 h oc h') ∧ (¬ ((0 ≤ i ∧ i < cnt) ∧ 0 ≤ j ∧ j < cnt) → jB 0 1 h oc h')) := by
  have k := L.K 1412 rfl
  have hcnt := T.1.2.2.2.2.2.1
  have F0 := FrM.code h (jI 0)
  have L0 := F0.lay L
  have hT0 := hT.M F0 ⟨by omega, by omega⟩ ⟨by omega, by omega⟩ (fun _ _ z => z)
  refine mj_Ct_of mj_ok tb_267 rfl rfl (Nat.le_of_ble_eq_true rfl) (fun Run hR => ?_)
  have bad : ¬ ((0 ≤ i ∧ i < cnt) ∧ 0 ≤ j ∧ j < cnt) → Run 22 [some (.ref 1412), some (.int (jI i)), some (.int (jI j))] [.int (jI 1), .ref 1412] h (0, 0) := by
    intro z
    refine hR 60 12 _ _ _ _ _ _ rfl ?_
    exact ⟨k, k, fun c2 => absurd c2 (cd1 h), fun c2 => ⟨fun q1 q2 => absurd ⟨q1, q2⟩ z, fun _ => ⟨rfl, sI_at _ _ _ _, FrM.code h _⟩⟩⟩
  refine hR 60 0 _ _ _ _ _ _ rfl ?_
  refine ⟨k, jcall (ct_264 G L hT.2.1.1 hcnt hi) ?_⟩
  by_cases z : 0 ≤ i ∧ i < cnt
  · rw [if_pos z]
    refine ⟨fun c => absurd c (by decide), fun c => ⟨k, jcall (ct_264 G L hT.2.1.1 hcnt hj) ?_⟩⟩
    by_cases z' : 0 ≤ j ∧ j < cnt
    · rw [if_pos z']
      have r36 : Run 36 [some (.ref 1412), some (.int (jI i)), some (.int (jI j))] [] (sI h 1412 0 (jI 0)) (0, 0) := by
        have c204 := ct_204 G L0 T hw hfr hT0 ⟨i.toNat, by omega⟩ ⟨j.toNat, by omega⟩
        rw [show (((⟨i.toNat, by omega⟩ : Fin cnt).val : Nat) : Int) = i by show ((i.toNat : Nat) : Int) = i; omega, show (((⟨j.toNat, by omega⟩ : Fin cnt).val : Nat) : Int) = j by show ((j.toNat : Nat) : Int) = j; omega] at c204
        refine hR 60 18 _ _ _ _ _ _ rfl ?_
        refine ⟨L0.K 1412 rfl, jcallP c204 ?_⟩
        rintro oc h3 ⟨rfl, F3⟩
        exact ⟨fun _ _ => ⟨rfl, (F3.2.2.1 0 (fun q => q)).trans (sI_at _ _ _ _), F0.trans (F3.mono (fun _ q => q.elim) (fun _ q => q) (fun _ q => q))⟩, fun q => absurd ⟨z, z'⟩ q⟩
      have r22 : Run 22 [some (.ref 1412), some (.int (jI i)), some (.int (jI j))] [.int (jI 0), .ref 1412] h (0, 0) := by
        refine hR 60 12 _ _ _ _ _ _ rfl ?_
        exact ⟨k, k, fun c2 => r36, fun c2 => absurd (cd0 h) c2⟩
      exact ⟨fun c => absurd c (by decide), fun c => r22⟩
    · rw [if_neg z']
      exact ⟨fun c => bad (fun q => z' q.2), fun c => absurd rfl c⟩
  · rw [if_neg z]
    exact ⟨fun c => bad (fun q => z q.1), fun c => absurd rfl c⟩
/-- FormHouseModel.exponent(II)I; cuts at [30, 44] -/
def cl_273_1 : List mj_E := (44, true, .aload_n 0, 1, 0, 0, 0, 0, 0) ::
  (45, false, .getfield 38, 3, 17, 10, 2, 0, 0) ::
  (48, false, .bipush 8, 2, 0, 0, 0, jI 8, 0) ::
  (50, false, .iload_n 1, 1, 0, 0, 0, 0, 0) ::
  (51, false, .imul, 1, 0, 0, 0, 0, 0) ::
  (52, false, .iload_n 2, 1, 0, 0, 0, 0, 0) ::
  (53, false, .iadd, 1, 0, 0, 0, 0, 0) ::
  (54, false, .iaload, 1, 0, 0, 0, 0, 0) ::
  (55, false, .ireturn, 1, 0, 0, 0, 0, 0) ::
  []
def cl_273_0 : List mj_E := (0, false, .aload_n 0, 1, 0, 0, 0, 0, 0) ::
  (1, false, .aload_n 0, 1, 0, 0, 0, 0, 0) ::
  (2, false, .iload_n 1, 1, 0, 0, 0, 0, 0) ::
  (3, false, .invokevirtual 448, 3, 264, 1, 17, 0, 0) ::
  (6, false, .ifCond .eq 23, 3, 17, 0, 0, 0, 0) ::
  (9, false, .iload_n 2, 1, 0, 0, 0, 0, 0) ::
  (10, false, .i2l, 1, 0, 0, 0, 0, 0) ::
  (11, false, .lconst 0, 1, 0, 0, 0, 0, jL 0) ::
  (12, false, .aload_n 0, 1, 0, 0, 0, 0, 0) ::
  (13, false, .getfield 208, 3, 17, 15, 0, 0, 0) ::
  (16, false, .iconst 1, 1, 0, 0, 0, jI 1, 0) ::
  (17, false, .isub, 1, 0, 0, 0, 0, 0) ::
  (18, false, .i2l, 1, 0, 0, 0, 0, 0) ::
  (19, false, .invokestatic 244, 3, 225, 3, 0, 0, 0) ::
  (22, false, .ifCond .eq 7, 3, 17, 0, 0, 0, 0) ::
  (25, false, .iconst 0, 1, 0, 0, 0, jI 0, 0) ::
  (26, false, .goto 4, 3, 18, 0, 0, 0, 0) ::
  (29, false, .iconst 1, 1, 0, 0, 0, jI 1, 0) ::
  (30, true, .putfield 120, 3, 17, 0, 0, 0, 0) ::
  (33, false, .aload_n 0, 1, 0, 0, 0, 0, 0) ::
  (34, false, .getfield 120, 3, 17, 0, 0, 0, 0) ::
  (37, false, .ifCond .le 7, 3, 24, 0, 0, 0, 0) ::
  (40, false, .iconst 0, 1, 0, 0, 0, jI 0, 0) ::
  (41, false, .goto 14, 3, 32, 0, 0, 0, 0) ::
  cl_273_1
def cd_273 : List mj_E := cl_273_0
def cx_273 : mj_X := (1, [], [])
theorem tb_273 : mj_tab (mj_mt 273) cx_273 cd_273 mj_mh [(0, 0, 0), (0, 0, 0), (0, 0, 0), (8208, 0, 0), (0, 0, 0), (0, 0, 0), (0, 0, 0), (0, 0, 0), (0, 0, 0), (7114, 0, 0), (0, 0, 0), (0, 0, 0), (0, 0, 0), (8044, 0, 0), (0, 0, 0), (0, 0, 0), (0, 0, 0), (0, 0, 0), (7099, 0, 0), (0, 0, 0), (7099, 0, 0), (0, 0, 0), (0, 0, 0), (0, 0, 0), (0, 0, 0), (7109, 0, 0), (0, 0, 0), (0, 0, 0), (0, 0, 0), (0, 0, 0), (0, 0, 0), (0, 0, 0), (0, 0, 0)] = true := mj_tab_f (by decide +kernel)
theorem ct_273 (G : mj_G) {h : mj_H} (L : isLam h) (T : isTF d w n A nxt cls cnt nm) (hT : isMT h d w n A cls cnt nm) {st : gS cnt} (hs : isMs st h) (hall : ∀ x : Fin cnt, x ∈ st.1) {i j : Int} (hi : -2147483648 ≤ i ∧ i < 2147483648) (hj : -2147483648 ≤ j ∧ j < 2147483648) : mj_Ct G (mj_mt 273) 0 0 [.ref 1412, .int (jI i), .int (jI j)] h (fun oc h' => (∀ (z : 0 ≤ i ∧ i < cnt) (z' : 0 ≤ j ∧ j < st.2.2.length), jB (st.2.1 ⟨i.toNat, by omega⟩ j.toNat : Nat) 0 h oc h') ∧ (¬ ((0 ≤ i ∧ i < cnt) ∧ 0 ≤ j ∧ j < st.2.2.length) → jB 0 1 h oc h')) := by
  have k := L.K 1412 rfl
  have hcnt := T.1.2.2.2.2.2.1
  have h8 := hs.2.2.1.2.1
  refine mj_Ct_of mj_ok tb_273 rfl rfl (Nat.le_of_ble_eq_true rfl) (fun Run hR => ?_)
  have bad : ¬ ((0 ≤ i ∧ i < cnt) ∧ 0 ≤ j ∧ j < st.2.2.length) → Run 30 [some (.ref 1412), some (.int (jI i)), some (.int (jI j))] [.int (jI 1), .ref 1412] h (0, 0) := by
    intro z
    refine hR 60 18 _ _ _ _ _ _ rfl ?_
    exact ⟨k, k, fun c2 => absurd c2 (cd1 h), fun c2 => ⟨fun q1 q2 => absurd ⟨q1, q2⟩ z, fun _ => ⟨rfl, sI_at _ _ _ _, FrM.code h _⟩⟩⟩
  refine hR 60 0 _ _ _ _ _ _ rfl ?_
  refine ⟨k, jcall (ct_264 G L hT.2.1.1 hcnt hi) ?_⟩
  by_cases z : 0 ≤ i ∧ i < cnt
  · rw [if_pos z]
    refine ⟨fun c => absurd c (by decide), fun c => ⟨k, jcall (in_fld G hs.1 (by omega) hj) ?_⟩⟩
    by_cases z' : 0 ≤ j ∧ j < st.2.2.length
    · rw [if_pos z']
      have r44 : Run 44 [some (.ref 1412), some (.int (jI i)), some (.int (jI j))] [] (sI h 1412 0 (jI 0)) (0, 0) := by
        have e : jI 8 * jI i + jI j = jI ((8 * i.toNat + j.toNat : Nat) : Int) := by
          rw [jI_mul, jI_add]
          congr 1
          omega
        refine hR 60 24 _ _ _ _ _ _ rfl ?_
        refine ⟨k, _, L.R 1412 10 _ rfl, Or.inl (L.K 1418 rfl), ?_, ?_⟩
        · rw [e, show hN (sI h 1412 0 (jI 0)) 1418 = 32768 from L.N 1417 rfl]
          exact jI_in (by omega) (by omega) (by omega)
        · refine ⟨fun _ _ => ⟨?_, sI_at _ _ _ _, FrM.code h _⟩, fun q => absurd ⟨z, z'⟩ q⟩
          rw [e, jI_nat (by omega) (by omega), Int.toNat_natCast, show hI (sI h 1412 0 (jI 0)) 1418 (8 * i.toNat + j.toNat) = hI h 1418 (8 * i.toNat + j.toNat) from rfl]
          rw [(hs.2.2.2.2.2.1 ⟨i.toNat, by omega⟩ (hall _) j.toNat (by omega)).1]
      have r30 : Run 30 [some (.ref 1412), some (.int (jI i)), some (.int (jI j))] [.int (jI 0), .ref 1412] h (0, 0) := by
        refine hR 60 18 _ _ _ _ _ _ rfl ?_
        exact ⟨k, k, fun c2 => r44, fun c2 => absurd (cd0 h) c2⟩
      exact ⟨fun c => absurd c (by decide), fun c => r30⟩
    · rw [if_neg z']
      exact ⟨fun c => bad (fun q => z' q.2), fun c => absurd rfl c⟩
  · rw [if_neg z]
    exact ⟨fun c => bad (fun q => z q.1), fun c => absurd rfl c⟩
/-- FormHouseModel.name(II)I; cuts at [26, 38, 43] -/
def cl_266_1 : List mj_E := (44, false, .ifCond .ne 10, 3, 28, 0, 0, 0, 0) ::
  (47, false, .aload_n 0, 1, 0, 0, 0, 0, 0) ::
  (48, false, .getfield 132, 3, 17, 50, 1, 0, 0) ::
  (51, false, .goto 19, 3, 36, 0, 0, 0, 0) ::
  (54, false, .iload_n 2, 1, 0, 0, 0, 0, 0) ::
  (55, false, .iconst 1, 1, 0, 0, 0, jI 1, 0) ::
  (56, false, .if_icmp .ne 10, 3, 34, 0, 0, 0, 0) ::
  (59, false, .aload_n 0, 1, 0, 0, 0, 0, 0) ::
  (60, false, .getfield 135, 3, 17, 51, 1, 0, 0) ::
  (63, false, .goto 7, 3, 36, 0, 0, 0, 0) ::
  (66, false, .aload_n 0, 1, 0, 0, 0, 0, 0) ::
  (67, false, .getfield 140, 3, 17, 52, 1, 0, 0) ::
  (70, false, .l2i, 1, 0, 0, 0, 0, 0) ::
  (71, false, .ireturn, 1, 0, 0, 0, 0, 0) ::
  []
def cl_266_0 : List mj_E := (0, false, .aload_n 0, 1, 0, 0, 0, 0, 0) ::
  (1, false, .aload_n 0, 1, 0, 0, 0, 0, 0) ::
  (2, false, .iload_n 1, 1, 0, 0, 0, 0, 0) ::
  (3, false, .invokevirtual 448, 3, 264, 1, 17, 0, 0) ::
  (6, false, .ifCond .eq 19, 3, 13, 0, 0, 0, 0) ::
  (9, false, .iload_n 2, 1, 0, 0, 0, 0, 0) ::
  (10, false, .i2l, 1, 0, 0, 0, 0, 0) ::
  (11, false, .lconst 0, 1, 0, 0, 0, 0, jL 0) ::
  (12, false, .ldc2_w 130, 3, 0, 0, 0, 0, jL 2) ::
  (15, false, .invokestatic 244, 3, 225, 3, 0, 0, 0) ::
  (18, false, .ifCond .eq 7, 3, 13, 0, 0, 0, 0) ::
  (21, false, .iconst 0, 1, 0, 0, 0, jI 0, 0) ::
  (22, false, .goto 4, 3, 14, 0, 0, 0, 0) ::
  (25, false, .iconst 1, 1, 0, 0, 0, jI 1, 0) ::
  (26, true, .putfield 120, 3, 17, 0, 0, 0, 0) ::
  (29, false, .aload_n 0, 1, 0, 0, 0, 0, 0) ::
  (30, false, .getfield 120, 3, 17, 0, 0, 0, 0) ::
  (33, false, .ifCond .le 5, 3, 20, 0, 0, 0, 0) ::
  (36, false, .iconst 0, 1, 0, 0, 0, jI 0, 0) ::
  (37, false, .ireturn, 1, 0, 0, 0, 0, 0) ::
  (38, true, .aload_n 0, 1, 0, 0, 0, 0, 0) ::
  (39, false, .iload_n 1, 1, 0, 0, 0, 0, 0) ::
  (40, false, .invokevirtual 185, 3, 205, 1, 17, 0, 0) ::
  (43, true, .iload_n 2, 1, 0, 0, 0, 0, 0) ::
  cl_266_1
def cd_266 : List mj_E := cl_266_0
def cx_266 : mj_X := (1, [], [])
theorem tb_266 : mj_tab (mj_mt 266) cx_266 cd_266 mj_mh [(0, 0, 0), (0, 0, 0), (0, 0, 0), (8208, 0, 0), (0, 0, 0), (0, 0, 0), (0, 0, 0), (0, 0, 0), (6218, 0, 0), (8044, 0, 0), (0, 0, 0), (0, 0, 0), (0, 0, 0), (0, 0, 0), (7099, 0, 0), (0, 0, 0), (7099, 0, 0), (0, 0, 0), (0, 0, 0), (0, 0, 0), (0, 0, 0), (0, 0, 0), (7026, 0, 0), (0, 0, 0), (0, 0, 0), (0, 0, 0), (7149, 0, 0), (0, 0, 0), (0, 0, 0), (0, 0, 0), (0, 0, 0), (0, 0, 0), (7150, 0, 0), (0, 0, 0), (0, 0, 0), (7151, 0, 0), (0, 0, 0), (0, 0, 0)] = true := mj_tab_f (by decide +kernel)
theorem ct_266 (G : mj_G) {h : mj_H} (L : isLam h) (T : isTF d w n A nxt cls cnt nm) (hT : isMT h d w n A cls cnt nm) {i j : Int} (hi : -2147483648 ≤ i ∧ i < 2147483648) (hj : -2147483648 ≤ j ∧ j < 2147483648) : mj_Ct G (mj_mt 266) 0 0 [.ref 1412, .int (jI i), .int (jI j)] h (fun oc h' => ((0 ≤ i ∧ i < cnt) → 0 ≤ j ∧ j < 3 → jB (if j = 0 then (nmF d A nm i.toNat).1 else if j = 1 then (nmF d A nm i.toNat).2.1 else (nmF d A nm i.toNat).2.2) 0 h oc h') ∧ (¬ ((0 ≤ i ∧ i < cnt) ∧ 0 ≤ j ∧ j < 3) → jB 0 1 h oc h')) := by
  have k := L.K 1412 rfl
  have hcnt := T.1.2.2.2.2.2.1
  have hd := T.1.2.2.1
  have F0 := FrM.code h (jI 0)
  have L0 := F0.lay L
  have hT0 := hT.M F0 ⟨by omega, by omega⟩ ⟨by omega, by omega⟩ (fun _ _ z => z)
  refine mj_Ct_of mj_ok tb_266 rfl rfl (Nat.le_of_ble_eq_true rfl) (fun Run hR => ?_)
  have bad : ¬ ((0 ≤ i ∧ i < cnt) ∧ 0 ≤ j ∧ j < 3) → Run 26 [some (.ref 1412), some (.int (jI i)), some (.int (jI j))] [.int (jI 1), .ref 1412] h (0, 0) := by
    intro z
    refine hR 60 14 _ _ _ _ _ _ rfl ?_
    exact ⟨k, k, fun c2 => absurd c2 (cd1 h), fun c2 => ⟨fun q1 q2 => absurd ⟨q1, q2⟩ z, fun _ => ⟨rfl, sI_at _ _ _ _, FrM.code h _⟩⟩⟩
  refine hR 60 0 _ _ _ _ _ _ rfl ?_
  refine ⟨k, jcall (ct_264 G L hT.2.1.1 hcnt hi) ?_⟩
  by_cases z : 0 ≤ i ∧ i < cnt
  · rw [if_pos z]
    refine ⟨fun c => absurd c (by decide), fun c => jcall (in_two G h hj) ?_⟩
    by_cases z' : 0 ≤ j ∧ j < 3
    · rw [if_pos z']
      have hm1 := T.2.2.2.1 i.toNat (by omega)
      have r43 : ∀ h3 : mj_H, isMm h3 (nmF d A nm i.toNat) → FrM noT jF noT (sI h 1412 0 (jI 0)) h3 → Run 43 [some (.ref 1412), some (.int (jI i)), some (.int (jI j))] [] h3 (0, 0) := by
        intro h3 m3 F3
        have k3 := (F3.lay L0).K 1412 rfl
        have code : hI h3 1412 0 = jI 0 := (F3.2.2.1 0 (fun q => q)).trans (sI_at _ _ _ _)
        have F4 : FrM iCo jF noT h h3 := F0.trans (F3.mono (fun _ q => q.elim) (fun _ q => q) (fun _ q => q))
        refine hR 60 23 _ _ _ _ _ _ rfl ?_
        refine ⟨fun c3 => ⟨k3, ?_⟩, fun c3 => ⟨fun c4 => ⟨k3, ?_⟩, fun c4 => ⟨k3, ?_⟩⟩⟩
        · simp (disch := omega) only [mj_lcm, jI_lt, jI_le, jI_eq, jL_lt, jL_le, jL_eq, jI_lt0, jI_0le, jI_0lt, jI_le0, jI_eq0, jL_eq0, jI_L, jI_add, jI_sub, jI_mul, jI_neg, jL_add, jL_sub, jL_mul, jL_neg, jL_I, jI_div, jI_mod, jL_div, jL_mod] at c3
          refine ⟨fun _ _ => ⟨?_, code, F4⟩, fun q => absurd ⟨z, z'⟩ q⟩
          rw [if_pos c3, m3.1, jL_I]
        · simp (disch := omega) only [mj_lcm, jI_lt, jI_le, jI_eq, jL_lt, jL_le, jL_eq, jI_lt0, jI_0le, jI_0lt, jI_le0, jI_eq0, jL_eq0, jI_L, jI_add, jI_sub, jI_mul, jI_neg, jL_add, jL_sub, jL_mul, jL_neg, jL_I, jI_div, jI_mod, jL_div, jL_mod] at c3 c4
          refine ⟨fun _ _ => ⟨?_, code, F4⟩, fun q => absurd ⟨z, z'⟩ q⟩
          rw [if_neg c3, if_pos c4, m3.2.1, jL_I]
        · simp (disch := omega) only [mj_lcm, jI_lt, jI_le, jI_eq, jL_lt, jL_le, jL_eq, jI_lt0, jI_0le, jI_0lt, jI_le0, jI_eq0, jL_eq0, jI_L, jI_add, jI_sub, jI_mul, jI_neg, jL_add, jL_sub, jL_mul, jL_neg, jL_I, jI_div, jI_mod, jL_div, jL_mod] at c3 c4
          refine ⟨fun _ _ => ⟨?_, code, F4⟩, fun q => absurd ⟨z, z'⟩ q⟩
          rw [if_neg c3, if_neg c4, m3.2.2, jL_I]
      have r38 : Run 38 [some (.ref 1412), some (.int (jI i)), some (.int (jI j))] [] (sI h 1412 0 (jI 0)) (0, 0) := by
        have c205 := ct_205 G L0 hT0.1 hT0.2.1 hT0.2.2 (by omega) (c := i.toNat) (by omega) hcnt hm1.1 (T.1.2.2.2.2.2.2.2 _ hm1.1).2.1
        rw [show ((i.toNat : Nat) : Int) = i by omega] at c205
        refine hR 60 20 _ _ _ _ _ _ rfl ?_
        refine ⟨L0.K 1412 rfl, jcallP c205 ?_⟩
        rintro oc h3 ⟨rfl, m3, F3⟩
        exact r43 h3 m3 F3
      have r26 : Run 26 [some (.ref 1412), some (.int (jI i)), some (.int (jI j))] [.int (jI 0), .ref 1412] h (0, 0) := by
        refine hR 60 14 _ _ _ _ _ _ rfl ?_
        exact ⟨k, k, fun c2 => r38, fun c2 => absurd (cd0 h) c2⟩
      exact ⟨fun c => absurd c (by decide), fun c => r26⟩
    · rw [if_neg z']
      exact ⟨fun c => bad (fun q => z' q.2), fun c => absurd rfl c⟩
  · rw [if_neg z]
    exact ⟨fun c => bad (fun q => z q.1), fun c => absurd rfl c⟩
/-- FormHouseModel.power(II)I; cuts at [14, 26, 31, 45, 52, 59] -/
def cl_270_1 : List mj_E := (40, false, .invokestatic 143, 3, 200, 2, 0, 0, 0) ::
  (43, false, .lstore 4, 2, 0, 0, 0, 0, 0) ::
  (45, true, .lload 4, 2, 0, 0, 0, 0, 0) ::
  (47, false, .lconst 0, 1, 0, 0, 0, 0, jL 0) ::
  (48, false, .lcmp, 1, 0, 0, 0, 0, 0) ::
  (49, false, .ifCond .le 19, 3, 40, 0, 0, 0, 0) ::
  (52, true, .aload_n 0, 1, 0, 0, 0, 0, 0) ::
  (53, false, .iload_n 3, 1, 0, 0, 0, 0, 0) ::
  (54, false, .iload_n 1, 1, 0, 0, 0, 0, 0) ::
  (55, false, .invokevirtual 204, 3, 204, 2, 17, 0, 0) ::
  (58, false, .istore_n 3, 1, 0, 0, 0, 0, 0) ::
  (59, true, .lload 4, 2, 0, 0, 0, 0, 0) ::
  (61, false, .lconst 1, 1, 0, 0, 0, 0, jL 1) ::
  (62, false, .lsub, 1, 0, 0, 0, 0, 0) ::
  (63, false, .lstore 4, 2, 0, 0, 0, 0, 0) ::
  (65, false, .goto (-20), 3, 26, 0, 0, 0, 0) ::
  (68, false, .iload_n 3, 1, 0, 0, 0, 0, 0) ::
  (69, false, .ireturn, 1, 0, 0, 0, 0, 0) ::
  []
def cl_270_0 : List mj_E := (0, false, .aload_n 0, 1, 0, 0, 0, 0, 0) ::
  (1, false, .aload_n 0, 1, 0, 0, 0, 0, 0) ::
  (2, false, .iload_n 1, 1, 0, 0, 0, 0, 0) ::
  (3, false, .invokevirtual 448, 3, 264, 1, 17, 0, 0) ::
  (6, false, .ifCond .eq 7, 3, 7, 0, 0, 0, 0) ::
  (9, false, .iconst 0, 1, 0, 0, 0, jI 0, 0) ::
  (10, false, .goto 4, 3, 8, 0, 0, 0, 0) ::
  (13, false, .iconst 1, 1, 0, 0, 0, jI 1, 0) ::
  (14, true, .putfield 120, 3, 17, 0, 0, 0, 0) ::
  (17, false, .aload_n 0, 1, 0, 0, 0, 0, 0) ::
  (18, false, .getfield 120, 3, 17, 0, 0, 0, 0) ::
  (21, false, .ifCond .le 5, 3, 14, 0, 0, 0, 0) ::
  (24, false, .iconst 0, 1, 0, 0, 0, jI 0, 0) ::
  (25, false, .ireturn, 1, 0, 0, 0, 0, 0) ::
  (26, true, .aload_n 0, 1, 0, 0, 0, 0, 0) ::
  (27, false, .getfield 201, 3, 17, 14, 0, 0, 0) ::
  (30, false, .istore_n 3, 1, 0, 0, 0, 0, 0) ::
  (31, true, .iload_n 2, 1, 0, 0, 0, 0, 0) ::
  (32, false, .i2l, 1, 0, 0, 0, 0, 0) ::
  (33, false, .aload_n 0, 1, 0, 0, 0, 0, 0) ::
  (34, false, .getfield 34, 3, 17, 9, 2, 0, 0) ::
  (37, false, .iload_n 1, 1, 0, 0, 0, 0, 0) ::
  (38, false, .iaload, 1, 0, 0, 0, 0, 0) ::
  (39, false, .i2l, 1, 0, 0, 0, 0, 0) ::
  cl_270_1
def cd_270 : List mj_E := cl_270_0
def cx_270 : mj_X := (1, [], [])
theorem tb_270 : mj_tab (mj_mt 270) cx_270 cd_270 mj_mh [(0, 0, 0), (0, 0, 0), (0, 0, 0), (8208, 0, 0), (0, 0, 0), (0, 0, 0), (0, 0, 0), (0, 0, 0), (7099, 0, 0), (0, 0, 0), (7099, 0, 0), (0, 0, 0), (0, 0, 0), (0, 0, 0), (0, 0, 0), (7113, 0, 0), (0, 0, 0), (0, 0, 0), (0, 0, 0), (0, 0, 0), (7108, 0, 0), (0, 0, 0), (0, 0, 0), (0, 0, 0), (7007, 0, 0), (0, 0, 0), (0, 0, 0), (0, 0, 0), (0, 0, 0), (0, 0, 0), (0, 0, 0), (0, 0, 0), (0, 0, 0), (7022, 0, 0), (0, 0, 0), (0, 0, 0), (0, 0, 0), (0, 0, 0), (0, 0, 0), (0, 0, 0), (0, 0, 0), (0, 0, 0)] = true := mj_tab_f (by decide +kernel)
theorem ct_270 (G : mj_G) {h : mj_H} (L : isLam h) (T : isTF d w n A nxt cls cnt nm) (hw : wdP d w) (hfr : isFr d A cnt nm) (hT : isMT h d w n A cls cnt nm) {o : Fin cnt → Nat} (hG : isMg T o h) (ho : ∀ x, 0 < o x ∧ o x ≤ 4096) {i j : Int} (hi : -2147483648 ≤ i ∧ i < 2147483648) (hj : -2147483648 ≤ j ∧ j < 2147483648) : mj_Ct G (mj_mt 270) 0 0 [.ref 1412, .int (jI i), .int (jI j)] h (fun oc h' => (∀ (z : 0 ≤ i ∧ i < cnt), jB (pw (mulC T) (oneC T) ⟨i.toNat, by omega⟩ (j % (o ⟨i.toNat, by omega⟩ : Int)).toNat).val 0 h oc h') ∧ (¬ (0 ≤ i ∧ i < cnt) → jB 0 1 h oc h')) := by
  have k := L.K 1412 rfl
  have hcnt := T.1.2.2.2.2.2.1
  have F0 := FrM.code h (jI 0)
  have L0 := F0.lay L
  have h1l := (oneC T).isLt
  refine mj_Ct_of mj_ok tb_270 rfl rfl (Nat.le_of_ble_eq_true rfl) (fun Run hR => ?_)
  refine hR 60 0 _ _ _ _ _ _ rfl ?_
  refine ⟨k, jcall (ct_264 G L hT.2.1.1 hcnt hi) ?_⟩
  by_cases z : 0 ≤ i ∧ i < cnt
  · rw [if_pos z]
    obtain ⟨x, hx⟩ : ∃ x : Fin cnt, x = ⟨i.toNat, by omega⟩ := ⟨_, rfl⟩
    have hxi : ((x.val : Nat) : Int) = i := by
      rw [hx]
      show ((i.toNat : Nat) : Int) = i
      omega
    have hox := ho x
    have m0 : 0 ≤ j % (o x : Int) := Int.emod_nonneg _ (by omega)
    have m1 : j % (o x : Int) < o x := Int.emod_lt_of_pos _ (by omega)
    have r45 : ∀ (m e : Nat) (p : Fin cnt) (pI' : Int32) (lL : Int64) (h3 : mj_H), e + m = (j % (o x : Int)).toNat → p = pw (mulC T) (oneC T) x e → FrM iCo jF noT h h3 → hI h3 1412 0 = jI 0 → lL = jL m → pI' = jI p.val → Run 45 [some (.ref 1412), some (.int (jI i)), some (.int (jI j)), some (.int pI'), some (.long lL), none] [] h3 (0, 0) := by
      intro m
      induction m with
      | zero =>
        rintro e p pI' lL h3 he hp F3 hc rfl rfl
        refine hR 60 26 _ _ _ _ _ _ rfl ?_
        refine ⟨fun c => ?_, fun c => ?_⟩
        · refine ⟨fun _ => ⟨?_, hc, F3⟩, fun q => absurd z q⟩
          rw [← hx, ← he, Nat.add_zero, ← hp]
        · simp only [mj_lcm] at c
          exact absurd ((jL_le (a := 0) (b := 0) (by decide) (by decide) (by decide) (by decide)).2 (by omega)) c
      | succ m ih =>
        rintro e p pI' lL h3 he hp F3 hc rfl rfl
        have L3 := F3.lay L
        have hT3 := hT.M F3 ⟨by omega, by omega⟩ ⟨by omega, by omega⟩ (fun _ _ z => z)
        have r59 : ∀ (h4 : mj_H) (pI' : Int32), FrM iCo jF noT h h4 → hI h4 1412 0 = jI 0 → pI' = jI (pw (mulC T) (oneC T) x (e + 1)).val → Run 59 [some (.ref 1412), some (.int (jI i)), some (.int (jI j)), some (.int pI'), some (.long (jL (m + 1 : Nat))), none] [] h4 (0, 0) := by
          intro h4 pI' F4 hc4 e4
          refine hR 60 35 _ _ _ _ _ _ rfl ?_
          refine ih (e + 1) _ _ _ h4 (by omega) rfl F4 hc4 ?_ e4
          rw [jL_sub]
          congr 1
          omega
        have r52 : Run 52 [some (.ref 1412), some (.int (jI i)), some (.int (jI j)), some (.int (jI p.val)), some (.long (jL (m + 1 : Nat))), none] [] h3 (0, 0) := by
          have c204 := ct_204 G L3 T hw hfr hT3 p x
          rw [hxi] at c204
          refine hR 60 30 _ _ _ _ _ _ rfl ?_
          refine ⟨L3.K 1412 rfl, jcallP c204 ?_⟩
          rintro oc h4 ⟨rfl, F4⟩
          refine r59 h4 _ (F3.trans (F4.mono (fun _ q => q.elim) (fun _ q => q) (fun _ q => q))) ((F4.2.2.1 0 (fun q => q)).trans hc) ?_
          rw [show pw (mulC T) (oneC T) x (e + 1) = mulC T p x by rw [hp]; rfl]
        refine hR 60 26 _ _ _ _ _ _ rfl ?_
        refine ⟨fun c => ?_, fun c => r52⟩
        simp only [mj_lcm] at c
        have c' : jL ((m + 1 : Nat) : Int) ≤ jL 0 := c
        rw [jL_le (by omega) (by omega) (by omega) (by omega)] at c'
        omega
    have r31 : ∀ (x4 x5 : Option Value), Run 31 [some (.ref 1412), some (.int (jI i)), some (.int (jI j)), some (.int (jI (oneC T).val)), x4, x5] [] (sI h 1412 0 (jI 0)) (0, 0) := by
      intro x4 x5
      obtain ⟨v, e⟩ := nat_in (h := h) (c := 1417) (i := i) (n := cnt) (L.N 1416 rfl) hcnt (by decide) z
      have e17 : hI (sI h 1412 0 (jI 0)) 1417 (jI i).toNatClampNeg = jI (o x) := by
        rw [e, show hI (sI h 1412 0 (jI 0)) 1417 i.toNat = hI h 1417 i.toNat from rfl, show i.toNat = x.val by rw [hx]]
        exact hG.2 x
      have c200 := ct_200 G (x := j) (y := (o x : Int)) (by omega) (by omega) (by omega) (by omega) (sI h 1412 0 (jI 0))
      rw [← jI_L (a := j) (by omega) (by omega), ← jI_L (a := (o x : Int)) (by omega) (by omega), ← e17] at c200
      refine hR 60 17 _ _ _ _ _ _ rfl ?_
      refine ⟨k, _, L.R 1412 9 _ rfl, Or.inl (L.K 1417 rfl), v, jcall c200 ?_⟩
      exact r45 _ 0 (oneC T) _ _ _ (Nat.zero_add _) rfl F0 (sI_at _ _ _ _) (by rw [Int.toNat_of_nonneg m0]) rfl
    have r26 : ∀ (x3 x4 x5 : Option Value), Run 26 [some (.ref 1412), some (.int (jI i)), some (.int (jI j)), x3, x4, x5] [] (sI h 1412 0 (jI 0)) (0, 0) := by
      intro x3 x4 x5
      refine hR 60 14 _ _ _ _ _ _ rfl ?_
      refine ⟨k, ?_⟩
      rw [show hI (sI h 1412 0 (jI 0)) 1412 14 = jI (oneC T).val from hG.1]
      exact r31 _ _
    have r14 : ∀ (x3 x4 x5 : Option Value), Run 14 [some (.ref 1412), some (.int (jI i)), some (.int (jI j)), x3, x4, x5] [.int (jI 0), .ref 1412] h (0, 0) := by
      intro x3 x4 x5
      refine hR 60 8 _ _ _ _ _ _ rfl ?_
      exact ⟨k, k, fun c2 => r26 _ _ _, fun c2 => absurd (cd0 h) c2⟩
    exact ⟨fun c => absurd c (by decide), fun c => r14 _ _ _⟩
  · rw [if_neg z]
    have r14 : ∀ (x3 x4 x5 : Option Value), Run 14 [some (.ref 1412), some (.int (jI i)), some (.int (jI j)), x3, x4, x5] [.int (jI 1), .ref 1412] h (0, 0) := by
      intro x3 x4 x5
      refine hR 60 8 _ _ _ _ _ _ rfl ?_
      exact ⟨k, k, fun c2 => absurd c2 (cd1 h), fun c2 => ⟨fun q => absurd q z, fun _ => ⟨rfl, sI_at _ _ _ _, FrM.code h _⟩⟩⟩
    exact ⟨fun c => r14 _ _ _, fun c => absurd rfl c⟩
end
