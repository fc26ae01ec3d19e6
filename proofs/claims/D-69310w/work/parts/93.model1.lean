/-! the model: forms that are worked with -/
def isMw (h : mj_H) (d w : Int) : Prop := hJ h 1412 1 = jL d ∧ hJ h 1412 2 = jL w
def isMm (h : mj_H) (f : Fm) : Prop := hJ h 1412 50 = jL f.1 ∧ hJ h 1412 51 = jL f.2.1 ∧ hJ h 1412 52 = jL f.2.2
/-- of the model's own fields the ints I and the longs J are changed, and the arrays S -/
def FrM (I J S : Nat → Prop) (h h' : mj_H) : Prop := h'.2.2 = h.2.2 ∧ (∀ a, a ≠ 1412 → ¬ S a → h'.1 a = h.1 a ∧ h'.2.1 a = h.2.1 a) ∧ (∀ k, ¬ I k → hI h' 1412 k = hI h 1412 k) ∧ ∀ k, ¬ J k → hJ h' 1412 k = hJ h 1412 k
abbrev jF (k : Nat) : Prop := 50 ≤ k ∧ k ≤ 53
theorem FrM.refl (I J S : Nat → Prop) (h : mj_H) : FrM I J S h h := ⟨rfl, fun _ _ _ => ⟨rfl, rfl⟩, fun _ _ => rfl, fun _ _ => rfl⟩
theorem FrM.trans {I J S : Nat → Prop} {h h' h'' : mj_H} (a : FrM I J S h h') (b : FrM I J S h' h'') : FrM I J S h h'' := ⟨b.1.trans a.1, fun x h1 h2 => ⟨(b.2.1 x h1 h2).1.trans (a.2.1 x h1 h2).1, (b.2.1 x h1 h2).2.trans (a.2.1 x h1 h2).2⟩, fun k hk => (b.2.2.1 k hk).trans (a.2.2.1 k hk), fun k hk => (b.2.2.2 k hk).trans (a.2.2.2 k hk)⟩
theorem FrM.mono {I J S I' J' S' : Nat → Prop} {h h' : mj_H} (a : FrM I J S h h') (h1 : ∀ k, I k → I' k) (h2 : ∀ k, J k → J' k) (h3 : ∀ k, S k → S' k) : FrM I' J' S' h h' := ⟨a.1, fun x z1 z2 => a.2.1 x z1 (fun z => z2 (h3 x z)), fun k hk => a.2.2.1 k (fun z => hk (h1 k z)), fun k hk => a.2.2.2 k (fun z => hk (h2 k z))⟩
theorem FrM.fr {I J S : Nat → Prop} {h h' : mj_H} (a : FrM I J S h h') : Fr (fun x => x = 1412 ∨ S x) noT h h' := ⟨congrArg (fun p => p.2) a.1, fun x hx => a.2.1 x (fun z => hx (Or.inl z)) (fun z => hx (Or.inr z)), fun x _ => by rw [a.1]⟩
theorem FrM.lay {I J S : Nat → Prop} {h h' : mj_H} (a : FrM I J S h h') (L : isLam h) : isLam h' := L.F a.fr (fun _ z => z.elim)
theorem FrM.fI {I J S : Nat → Prop} {h h' : mj_H} (a : FrM I J S h h') {k : Nat} (hk : I k) (v : Int32) : FrM I J S h (sI h' 1412 k v) := by
  refine ⟨a.1, fun x h1 h2 => ⟨(sI_a _ h1 _ _).trans (a.2.1 x h1 h2).1, (a.2.1 x h1 h2).2⟩, fun l hl => ?_, a.2.2.2⟩
  exact (sI_k _ _ (fun (z : l = k) => hl (by rw [z]; exact hk)) _).trans (a.2.2.1 l hl)
theorem FrM.fJ {I J S : Nat → Prop} {h h' : mj_H} (a : FrM I J S h h') {k : Nat} (hk : J k) (v : Int64) : FrM I J S h (sJ h' 1412 k v) := by
  refine ⟨a.1, fun x h1 h2 => ⟨(a.2.1 x h1 h2).1, (sJ_a _ h1 _ _).trans (a.2.1 x h1 h2).2⟩, a.2.2.1, fun l hl => ?_⟩
  exact (sJ_k _ _ (fun (z : l = k) => hl (by rw [z]; exact hk)) _).trans (a.2.2.2 l hl)
theorem FrM.aI {I J S : Nat → Prop} {h h' : mj_H} (a : FrM I J S h h') {c : Nat} (hc : S c) (h12 : c ≠ 1412) (k : Nat) (v : Int32) : FrM I J S h (sI h' c k v) := by
  refine ⟨a.1, fun x h1 h2 => ⟨(sI_a _ (fun (z : x = c) => h2 (by rw [z]; exact hc)) _ _).trans (a.2.1 x h1 h2).1, (a.2.1 x h1 h2).2⟩, fun l hl => ?_, a.2.2.2⟩
  exact (congrFun (sI_a _ (Ne.symm h12) _ _) _).trans (a.2.2.1 l hl)
theorem FrM.aJ {I J S : Nat → Prop} {h h' : mj_H} (a : FrM I J S h h') {c : Nat} (hc : S c) (h12 : c ≠ 1412) (k : Nat) (v : Int64) : FrM I J S h (sJ h' c k v) := by
  refine ⟨a.1, fun x h1 h2 => ⟨(a.2.1 x h1 h2).1, (sJ_a _ (fun (z : x = c) => h2 (by rw [z]; exact hc)) _ _).trans (a.2.1 x h1 h2).2⟩, a.2.2.1, fun l hl => ?_⟩
  exact (congrFun (sJ_a _ (Ne.symm h12) _ _) _).trans (a.2.2.2 l hl)
theorem FrI.toM {L : List Nat} {I J S : Nat → Prop} {h h' : mj_H} (a : FrI L h h') (h1 : 1412 ∉ L) (hs : ∀ x, x ∈ L → S x) : FrM I J S h h' := ⟨by rw [a.1], fun x _ h2 => ⟨a.2 x (fun z => h2 (hs x z)), by rw [a.1]⟩, fun k _ => congrFun (a.2 1412 h1) k, fun k _ => by show h'.2.1 1412 k = h.2.1 1412 k; rw [a.1]⟩
theorem FrM.I {I J S : Nat → Prop} {h h' : mj_H} (a : FrM I J S h h') {c : Nat} (h1 : c ≠ 1412) (h2 : ¬ S c) (k : Nat) : hI h' c k = hI h c k := congrFun (a.2.1 c h1 h2).1 k
theorem FrM.J {I J S : Nat → Prop} {h h' : mj_H} (a : FrM I J S h h') {c : Nat} (h1 : c ≠ 1412) (h2 : ¬ S c) (k : Nat) : hJ h' c k = hJ h c k := congrFun (a.2.1 c h1 h2).2 k
theorem isMw.M {I J S : Nat → Prop} {h h' : mj_H} (f : FrM I J S h h') {d w : Int} (a : isMw h d w) (h1 : ¬ J 1) (h2 : ¬ J 2) : isMw h' d w := ⟨(f.2.2.2 1 h1).trans a.1, (f.2.2.2 2 h2).trans a.2⟩
theorem isMm.M {I J S : Nat → Prop} {h h' : mj_H} (f : FrM I J S h h') {g : Fm} (a : isMm h g) (hj : ∀ k, 50 ≤ k ∧ k ≤ 52 → ¬ J k) : isMm h' g := ⟨(f.2.2.2 50 (hj _ (by omega))).trans a.1, (f.2.2.2 51 (hj _ (by omega))).trans a.2.1, (f.2.2.2 52 (hj _ (by omega))).trans a.2.2⟩
/-- it returns nothing and leaves the form f -/
def jMm (f : Fm) (h : mj_H) : mj_Q := fun o h' => o = .returned none ∧ isMm h' f ∧ FrM noT jF noT h h'
/-- FormHouseModel.be(JJ)V; cuts at [] -/
def cd_194 : List mj_E := [(0, false, .aload_n 0, 1, 0, 0, 0, 0, 0),
  (1, false, .lload_n 1, 1, 0, 0, 0, 0, 0),
  (2, false, .putfield 132, 3, 17, 50, 1, 0, 0),
  (5, false, .aload_n 0, 1, 0, 0, 0, 0, 0),
  (6, false, .lload_n 3, 1, 0, 0, 0, 0, 0),
  (7, false, .putfield 135, 3, 17, 51, 1, 0, 0),
  (10, false, .aload_n 0, 1, 0, 0, 0, 0, 0),
  (11, false, .lload_n 3, 1, 0, 0, 0, 0, 0),
  (12, false, .lload_n 3, 1, 0, 0, 0, 0, 0),
  (13, false, .lmul, 1, 0, 0, 0, 0, 0),
  (14, false, .aload_n 0, 1, 0, 0, 0, 0, 0),
  (15, false, .getfield 9, 3, 17, 1, 1, 0, 0),
  (18, false, .lsub, 1, 0, 0, 0, 0, 0),
  (19, false, .ldc2_w 138, 3, 0, 0, 0, 0, jL 4),
  (22, false, .lload_n 1, 1, 0, 0, 0, 0, 0),
  (23, false, .lmul, 1, 0, 0, 0, 0, 0),
  (24, false, .ldiv, 1, 0, 0, 0, 0, 0),
  (25, false, .putfield 140, 3, 17, 52, 1, 0, 0),
  (28, false, .return_, 1, 0, 0, 0, 0, 0)]
def cx_194 : mj_X := (0, [], [])
theorem tb_194 : mj_tab (mj_mt 194) cx_194 cd_194 mj_mh [(0, 0, 0), (0, 0, 0), (7149, 0, 0), (0, 0, 0), (0, 0, 0), (7150, 0, 0), (0, 0, 0), (0, 0, 0), (0, 0, 0), (0, 0, 0), (0, 0, 0), (7100, 0, 0), (0, 0, 0), (6224, 0, 0), (0, 0, 0), (0, 0, 0), (0, 0, 0), (7151, 0, 0), (0, 0, 0)] = true := mj_tab_f (by decide +kernel)
theorem ct_194 (G : mj_G) {h : mj_H} (L : isLam h) {d w : Int} (hw : isMw h d w) (hd : -1099511627776 < d ∧ d < 1099511627776) {x y : Int} (hx : x ≠ 0) (hx2 : -1152921504606846976 < x ∧ x < 1152921504606846976) (hy : -2147483648 ≤ y ∧ y ≤ 2147483648) : mj_Ct G (mj_mt 194) 0 0 [.ref 1412, .long (jL x), .long (jL y)] h (fun o h' => o = .returned none ∧ isMm h' (fmP d (x, y)) ∧ FrM noT (fun k => 50 ≤ k ∧ k ≤ 52) noT h h') := by
  have hyy : 0 ≤ y * y ∧ y * y ≤ 4611686018427387904 := by
    have h3 : y * y = (y.natAbs : Int) * y.natAbs := by rw [← Int.natCast_mul, ← Int.natAbs_mul, Int.natAbs_of_nonneg (sqn y)]
    refine ⟨sqn y, ?_⟩
    rw [h3]
    exact Int.le_trans (Int.mul_le_mul (c := 2147483648) (d := 2147483648) (by omega) (by omega) (by omega) (by decide)) (by decide)
  refine mj_Ct_of mj_ok tb_194 rfl rfl (Nat.le_of_ble_eq_true rfl) (fun Run hR => ?_)
  refine hR 60 0 _ _ _ _ _ _ rfl ?_
  refine ⟨L.K 1412 rfl, L.K 1412 rfl, L.K 1412 rfl, ?_, L.K 1412 rfl, rfl, ⟨rfl, rfl, ?_⟩, ((FrM.refl _ _ _ h).fJ (by omega) _).fJ (by omega) _ |>.fJ (by omega) _⟩
  · simp (disch := omega) only [mj_lcm, jI_lt, jI_le, jI_eq, jL_lt, jL_le, jL_eq, jI_lt0, jI_0le, jI_0lt, jI_le0, jI_eq0, jL_eq0, jI_L, jI_add, jI_sub, jI_mul, jI_neg, jL_add, jL_sub, jL_mul, jL_neg, jL_I, jI_div, jI_mod, jL_div, jL_mod]
    omega
  · refine (sJ_at _ _ _ _).trans ?_
    show (jL y * jL y - hJ h 1412 1) / (jL 4 * jL x) = _
    rw [hw.1, jL_mul, jL_mul, jL_sub, jL_div (by omega) (by omega) (by omega) (by omega)]
    rfl
/-- FormHouseModel.isReduced()Z; cuts at [] -/
def cl_195_3 : List mj_E := (138, false, .getfield 17, 3, 17, 2, 1, 0, 0) ::
  (141, false, .lcmp, 1, 0, 0, 0, 0, 0) ::
  (142, false, .ifCond .gt 7, 3, 77, 0, 0, 0, 0) ::
  (145, false, .iconst 1, 1, 0, 0, 0, jI 1, 0) ::
  (146, false, .goto 4, 3, 78, 0, 0, 0, 0) ::
  (149, false, .iconst 0, 1, 0, 0, 0, jI 0, 0) ::
  (150, false, .ireturn, 1, 0, 0, 0, 0, 0) ::
  []
def cl_195_2 : List mj_E := (90, false, .getfield 17, 3, 17, 2, 1, 0, 0) ::
  (93, false, .lcmp, 1, 0, 0, 0, 0, 0) ::
  (94, false, .ifCond .gt 55, 3, 77, 0, 0, 0, 0) ::
  (97, false, .ldc2_w 130, 3, 0, 0, 0, 0, jL 2) ::
  (100, false, .aload_n 0, 1, 0, 0, 0, 0, 0) ::
  (101, false, .getfield 132, 3, 17, 50, 1, 0, 0) ::
  (104, false, .invokestatic 124, 3, 196, 1, 0, 0, 0) ::
  (107, false, .lmul, 1, 0, 0, 0, 0, 0) ::
  (108, false, .aload_n 0, 1, 0, 0, 0, 0, 0) ::
  (109, false, .getfield 135, 3, 17, 51, 1, 0, 0) ::
  (112, false, .ladd, 1, 0, 0, 0, 0, 0) ::
  (113, false, .aload_n 0, 1, 0, 0, 0, 0, 0) ::
  (114, false, .getfield 17, 3, 17, 2, 1, 0, 0) ::
  (117, false, .lcmp, 1, 0, 0, 0, 0, 0) ::
  (118, false, .ifCond .le 31, 3, 77, 0, 0, 0, 0) ::
  (121, false, .ldc2_w 130, 3, 0, 0, 0, 0, jL 2) ::
  (124, false, .aload_n 0, 1, 0, 0, 0, 0, 0) ::
  (125, false, .getfield 132, 3, 17, 50, 1, 0, 0) ::
  (128, false, .invokestatic 124, 3, 196, 1, 0, 0, 0) ::
  (131, false, .lmul, 1, 0, 0, 0, 0, 0) ::
  (132, false, .aload_n 0, 1, 0, 0, 0, 0, 0) ::
  (133, false, .getfield 135, 3, 17, 51, 1, 0, 0) ::
  (136, false, .lsub, 1, 0, 0, 0, 0, 0) ::
  (137, false, .aload_n 0, 1, 0, 0, 0, 0, 0) ::
  cl_195_3
def cl_195_1 : List mj_E := (46, false, .getfield 135, 3, 17, 51, 1, 0, 0) ::
  (49, false, .lneg, 1, 0, 0, 0, 0, 0) ::
  (50, false, .aload_n 0, 1, 0, 0, 0, 0, 0) ::
  (51, false, .getfield 132, 3, 17, 50, 1, 0, 0) ::
  (54, false, .lcmp, 1, 0, 0, 0, 0, 0) ::
  (55, false, .ifCond .eq 19, 3, 38, 0, 0, 0, 0) ::
  (58, false, .aload_n 0, 1, 0, 0, 0, 0, 0) ::
  (59, false, .getfield 132, 3, 17, 50, 1, 0, 0) ::
  (62, false, .aload_n 0, 1, 0, 0, 0, 0, 0) ::
  (63, false, .getfield 140, 3, 17, 52, 1, 0, 0) ::
  (66, false, .lcmp, 1, 0, 0, 0, 0, 0) ::
  (67, false, .ifCond .eq 7, 3, 38, 0, 0, 0, 0) ::
  (70, false, .iconst 1, 1, 0, 0, 0, jI 1, 0) ::
  (71, false, .goto 4, 3, 39, 0, 0, 0, 0) ::
  (74, false, .iconst 0, 1, 0, 0, 0, jI 0, 0) ::
  (75, false, .ireturn, 1, 0, 0, 0, 0, 0) ::
  (76, false, .aload_n 0, 1, 0, 0, 0, 0, 0) ::
  (77, false, .getfield 135, 3, 17, 51, 1, 0, 0) ::
  (80, false, .lconst 0, 1, 0, 0, 0, 0, jL 0) ::
  (81, false, .lcmp, 1, 0, 0, 0, 0, 0) ::
  (82, false, .ifCond .le 67, 3, 77, 0, 0, 0, 0) ::
  (85, false, .aload_n 0, 1, 0, 0, 0, 0, 0) ::
  (86, false, .getfield 135, 3, 17, 51, 1, 0, 0) ::
  (89, false, .aload_n 0, 1, 0, 0, 0, 0, 0) ::
  cl_195_2
def cl_195_0 : List mj_E := (0, false, .aload_n 0, 1, 0, 0, 0, 0, 0) ::
  (1, false, .getfield 9, 3, 17, 1, 1, 0, 0) ::
  (4, false, .lconst 0, 1, 0, 0, 0, 0, jL 0) ::
  (5, false, .lcmp, 1, 0, 0, 0, 0, 0) ::
  (6, false, .ifCond .ge 70, 3, 40, 0, 0, 0, 0) ::
  (9, false, .aload_n 0, 1, 0, 0, 0, 0, 0) ::
  (10, false, .getfield 135, 3, 17, 51, 1, 0, 0) ::
  (13, false, .invokestatic 124, 3, 196, 1, 0, 0, 0) ::
  (16, false, .aload_n 0, 1, 0, 0, 0, 0, 0) ::
  (17, false, .getfield 132, 3, 17, 50, 1, 0, 0) ::
  (20, false, .lcmp, 1, 0, 0, 0, 0, 0) ::
  (21, false, .ifCond .gt 53, 3, 38, 0, 0, 0, 0) ::
  (24, false, .aload_n 0, 1, 0, 0, 0, 0, 0) ::
  (25, false, .getfield 132, 3, 17, 50, 1, 0, 0) ::
  (28, false, .aload_n 0, 1, 0, 0, 0, 0, 0) ::
  (29, false, .getfield 140, 3, 17, 52, 1, 0, 0) ::
  (32, false, .lcmp, 1, 0, 0, 0, 0, 0) ::
  (33, false, .ifCond .gt 41, 3, 38, 0, 0, 0, 0) ::
  (36, false, .aload_n 0, 1, 0, 0, 0, 0, 0) ::
  (37, false, .getfield 135, 3, 17, 51, 1, 0, 0) ::
  (40, false, .lconst 0, 1, 0, 0, 0, 0, jL 0) ::
  (41, false, .lcmp, 1, 0, 0, 0, 0, 0) ::
  (42, false, .ifCond .ge 28, 3, 36, 0, 0, 0, 0) ::
  (45, false, .aload_n 0, 1, 0, 0, 0, 0, 0) ::
  cl_195_1
def cd_195 : List mj_E := cl_195_0
def cx_195 : mj_X := (4, [], [])
theorem tb_195 : mj_tab (mj_mt 195) cx_195 cd_195 mj_mh [(0, 0, 0), (7100, 0, 0), (0, 0, 0), (0, 0, 0), (0, 0, 0), (0, 0, 0), (7150, 0, 0), (6233, 0, 0), (0, 0, 0), (7149, 0, 0), (0, 0, 0), (0, 0, 0), (0, 0, 0), (7149, 0, 0), (0, 0, 0), (7151, 0, 0), (0, 0, 0), (0, 0, 0), (0, 0, 0), (7150, 0, 0), (0, 0, 0), (0, 0, 0), (0, 0, 0), (0, 0, 0), (7150, 0, 0), (0, 0, 0), (0, 0, 0), (7149, 0, 0), (0, 0, 0), (0, 0, 0), (0, 0, 0), (7149, 0, 0), (0, 0, 0), (7151, 0, 0), (0, 0, 0), (0, 0, 0), (0, 0, 0), (0, 0, 0), (0, 0, 0), (0, 0, 0), (0, 0, 0), (7150, 0, 0), (0, 0, 0), (0, 0, 0), (0, 0, 0), (0, 0, 0), (7150, 0, 0), (0, 0, 0), (7101, 0, 0), (0, 0, 0), (0, 0, 0), (6218, 0, 0), (0, 0, 0), (7149, 0, 0), (6233, 0, 0), (0, 0, 0), (0, 0, 0), (7150, 0, 0), (0, 0, 0), (0, 0, 0), (7101, 0, 0), (0, 0, 0), (0, 0, 0), (6218, 0, 0), (0, 0, 0), (7149, 0, 0), (6233, 0, 0), (0, 0, 0), (0, 0, 0), (7150, 0, 0), (0, 0, 0), (0, 0, 0), (7101, 0, 0), (0, 0, 0), (0, 0, 0), (0, 0, 0), (0, 0, 0), (0, 0, 0), (0, 0, 0)] = true := mj_tab_f (by decide +kernel)
theorem ct_195 (G : mj_G) {h : mj_H} (L : isLam h) {d w : Int} (hw : isMw h d w) (hd : -1099511627776 < d ∧ d < 1099511627776) (hd0 : d ≠ 0) (hwb : -1 ≤ w ∧ w < 2147483648) {f : Fm} (hf : isMm h f) (ho : okF f) (hp : d < 0 → 0 < f.1) : mj_Ct G (mj_mt 195) 0 0 [.ref 1412] h (jR (.int (jI (if rdF d w f then 1 else 0))) h) := by
  obtain ⟨o1, o2, o3, o4⟩ := ho
  obtain ⟨f1, f2, f3⟩ := hf
  obtain ⟨w1, w2⟩ := hw
  have k := L.K 1412 rfl
  refine mj_Ct_of mj_ok tb_195 rfl rfl (Nat.le_of_ble_eq_true rfl) (fun Run hR => ?_)
  refine hR 100 0 _ _ _ _ _ _ rfl ?_
  refine ⟨k, fun c1 => ?_, fun c1 => ?_⟩
  · simp only [mj_lcm, w1] at c1
    simp (disch := omega) only [mj_lcm, jI_lt, jI_le, jI_eq, jL_lt, jL_le, jL_eq, jI_lt0, jI_0le, jI_0lt, jI_le0, jI_eq0, jL_eq0, jI_L, jI_add, jI_sub, jI_mul, jI_neg, jL_add, jL_sub, jL_mul, jL_neg, jL_I, jI_div, jI_mod, jL_div, jL_mod] at c1
    have e : rdF d w f = decide (0 < f.2.1 ∧ f.2.1 ≤ w ∧ w < 2 * f.1.natAbs + f.2.1 ∧ 2 * (f.1.natAbs : Int) - f.2.1 ≤ w) := by
      unfold rdF rdB
      rw [if_pos (by omega)]
    rw [e]
    refine ⟨k, fun c2 => ⟨Or.inl rfl, ?_⟩, fun c2 => ⟨k, k, fun c3 => ⟨Or.inl rfl, ?_⟩, fun c3 => ⟨k, ?_⟩⟩⟩
    · simp only [mj_lcm, f2] at c2
      simp (disch := omega) only [mj_lcm, jI_lt, jI_le, jI_eq, jL_lt, jL_le, jL_eq, jI_lt0, jI_0le, jI_0lt, jI_le0, jI_eq0, jL_eq0, jI_L, jI_add, jI_sub, jI_mul, jI_neg, jL_add, jL_sub, jL_mul, jL_neg, jL_I, jI_div, jI_mod, jL_div, jL_mod] at c2
      rw [if_neg (by simp only [decide_eq_true_eq]; omega)]
      exact jRe rfl
    · simp only [mj_lcm, f2, w2] at c2 c3
      simp (disch := omega) only [mj_lcm, jI_lt, jI_le, jI_eq, jL_lt, jL_le, jL_eq, jI_lt0, jI_0le, jI_0lt, jI_le0, jI_eq0, jL_eq0, jI_L, jI_add, jI_sub, jI_mul, jI_neg, jL_add, jL_sub, jL_mul, jL_neg, jL_I, jI_div, jI_mod, jL_div, jL_mod] at c2 c3
      rw [if_neg (by simp only [decide_eq_true_eq]; omega)]
      exact jRe rfl
    · simp only [mj_lcm, f2, w2] at c2 c3
      simp (disch := omega) only [mj_lcm, jI_lt, jI_le, jI_eq, jL_lt, jL_le, jL_eq, jI_lt0, jI_0le, jI_0lt, jI_le0, jI_eq0, jL_eq0, jI_L, jI_add, jI_sub, jI_mul, jI_neg, jL_add, jL_sub, jL_mul, jL_neg, jL_I, jI_div, jI_mod, jL_div, jL_mod] at c2 c3
      rw [f1]
      refine jcall (ct_196 G (by omega) (by omega) h) ?_
      refine ⟨k, k, fun c4 => ⟨Or.inl rfl, ?_⟩, fun c4 => ⟨k, ?_⟩⟩
      · simp only [mj_lcm, f2, w2] at c4
        simp (disch := omega) only [mj_lcm, jI_lt, jI_le, jI_eq, jL_lt, jL_le, jL_eq, jI_lt0, jI_0le, jI_0lt, jI_le0, jI_eq0, jL_eq0, jI_L, jI_add, jI_sub, jI_mul, jI_neg, jL_add, jL_sub, jL_mul, jL_neg, jL_I, jI_div, jI_mod, jL_div, jL_mod] at c4
        rw [if_neg (by simp only [decide_eq_true_eq]; omega)]
        exact jRe rfl
      · simp only [mj_lcm, f2, w2] at c4
        simp (disch := omega) only [mj_lcm, jI_lt, jI_le, jI_eq, jL_lt, jL_le, jL_eq, jI_lt0, jI_0le, jI_0lt, jI_le0, jI_eq0, jL_eq0, jI_L, jI_add, jI_sub, jI_mul, jI_neg, jL_add, jL_sub, jL_mul, jL_neg, jL_I, jI_div, jI_mod, jL_div, jL_mod] at c4
        rw [f1]
        refine jcall (ct_196 G (by omega) (by omega) h) ?_
        refine ⟨k, k, fun c5 => ⟨Or.inl rfl, ?_⟩, fun c5 => ⟨Or.inr rfl, ?_⟩⟩
        · simp only [mj_lcm, f2, w2] at c5
          simp (disch := omega) only [mj_lcm, jI_lt, jI_le, jI_eq, jL_lt, jL_le, jL_eq, jI_lt0, jI_0le, jI_0lt, jI_le0, jI_eq0, jL_eq0, jI_L, jI_add, jI_sub, jI_mul, jI_neg, jL_add, jL_sub, jL_mul, jL_neg, jL_I, jI_div, jI_mod, jL_div, jL_mod] at c5
          rw [if_neg (by simp only [decide_eq_true_eq]; omega)]
          exact jRe rfl
        · simp only [mj_lcm, f2, w2] at c5
          simp (disch := omega) only [mj_lcm, jI_lt, jI_le, jI_eq, jL_lt, jL_le, jL_eq, jI_lt0, jI_0le, jI_0lt, jI_le0, jI_eq0, jL_eq0, jI_L, jI_add, jI_sub, jI_mul, jI_neg, jL_add, jL_sub, jL_mul, jL_neg, jL_I, jI_div, jI_mod, jL_div, jL_mod] at c5
          rw [if_pos (by simp only [decide_eq_true_eq]; omega)]
          exact jRe rfl
  · simp only [mj_lcm, w1] at c1
    simp (disch := omega) only [mj_lcm, jI_lt, jI_le, jI_eq, jL_lt, jL_le, jL_eq, jI_lt0, jI_0le, jI_0lt, jI_le0, jI_eq0, jL_eq0, jI_L, jI_add, jI_sub, jI_mul, jI_neg, jL_add, jL_sub, jL_mul, jL_neg, jL_I, jI_div, jI_mod, jL_div, jL_mod] at c1
    have hp' := hp (by omega)
    have e : rdF d w f = decide ((f.2.1.natAbs : Int) ≤ f.1.natAbs ∧ (f.1.natAbs : Int) ≤ f.2.2 ∧ (0 ≤ f.2.1 ∨ ((f.2.1.natAbs : Int) ≠ f.1.natAbs ∧ (f.1.natAbs : Int) ≠ f.2.2))) := by
      unfold rdF rdB
      rw [if_neg (by omega)]
    rw [e]
    refine ⟨k, ?_⟩
    rw [f2]
    refine jcall (ct_196 G (by omega) (by omega) h) ?_
    refine ⟨k, fun c2 => ⟨Or.inl rfl, ?_⟩, fun c2 => ⟨k, k, fun c3 => ⟨Or.inl rfl, ?_⟩, fun c3 => ⟨k, fun c4 => ⟨Or.inr rfl, ?_⟩, fun c4 => ⟨k, k, fun c5 => ⟨Or.inl rfl, ?_⟩, fun c5 => ⟨k, k, fun c6 => ⟨Or.inl rfl, ?_⟩, fun c6 => ⟨Or.inr rfl, ?_⟩⟩⟩⟩⟩⟩
    · simp only [mj_lcm, f1] at c2
      simp (disch := omega) only [mj_lcm, jI_lt, jI_le, jI_eq, jL_lt, jL_le, jL_eq, jI_lt0, jI_0le, jI_0lt, jI_le0, jI_eq0, jL_eq0, jI_L, jI_add, jI_sub, jI_mul, jI_neg, jL_add, jL_sub, jL_mul, jL_neg, jL_I, jI_div, jI_mod, jL_div, jL_mod] at c2
      rw [if_neg (by simp only [decide_eq_true_eq]; omega)]
      exact jRe rfl
    · simp only [mj_lcm, f1, f3] at c2 c3
      simp (disch := omega) only [mj_lcm, jI_lt, jI_le, jI_eq, jL_lt, jL_le, jL_eq, jI_lt0, jI_0le, jI_0lt, jI_le0, jI_eq0, jL_eq0, jI_L, jI_add, jI_sub, jI_mul, jI_neg, jL_add, jL_sub, jL_mul, jL_neg, jL_I, jI_div, jI_mod, jL_div, jL_mod] at c2 c3
      rw [if_neg (by simp only [decide_eq_true_eq]; omega)]
      exact jRe rfl
    · simp only [mj_lcm, f1, f2, f3] at c2 c3 c4
      simp (disch := omega) only [mj_lcm, jI_lt, jI_le, jI_eq, jL_lt, jL_le, jL_eq, jI_lt0, jI_0le, jI_0lt, jI_le0, jI_eq0, jL_eq0, jI_L, jI_add, jI_sub, jI_mul, jI_neg, jL_add, jL_sub, jL_mul, jL_neg, jL_I, jI_div, jI_mod, jL_div, jL_mod] at c2 c3 c4
      rw [if_pos (by simp only [decide_eq_true_eq]; omega)]
      exact jRe rfl
    · simp only [mj_lcm, f1, f2, f3] at c2 c3 c4 c5
      simp (disch := omega) only [mj_lcm, jI_lt, jI_le, jI_eq, jL_lt, jL_le, jL_eq, jI_lt0, jI_0le, jI_0lt, jI_le0, jI_eq0, jL_eq0, jI_L, jI_add, jI_sub, jI_mul, jI_neg, jL_add, jL_sub, jL_mul, jL_neg, jL_I, jI_div, jI_mod, jL_div, jL_mod] at c2 c3 c4 c5
      rw [if_neg (by simp only [decide_eq_true_eq]; omega)]
      exact jRe rfl
    · simp only [mj_lcm, f1, f2, f3] at c2 c3 c4 c5 c6
      simp (disch := omega) only [mj_lcm, jI_lt, jI_le, jI_eq, jL_lt, jL_le, jL_eq, jI_lt0, jI_0le, jI_0lt, jI_le0, jI_eq0, jL_eq0, jI_L, jI_add, jI_sub, jI_mul, jI_neg, jL_add, jL_sub, jL_mul, jL_neg, jL_I, jI_div, jI_mod, jL_div, jL_mod] at c2 c3 c4 c5 c6
      rw [if_neg (by simp only [decide_eq_true_eq]; omega)]
      exact jRe rfl
    · simp only [mj_lcm, f1, f2, f3] at c2 c3 c4 c5 c6
      simp (disch := omega) only [mj_lcm, jI_lt, jI_le, jI_eq, jL_lt, jL_le, jL_eq, jI_lt0, jI_0le, jI_0lt, jI_le0, jI_eq0, jL_eq0, jI_L, jI_add, jI_sub, jI_mul, jI_neg, jL_add, jL_sub, jL_mul, jL_neg, jL_I, jI_div, jI_mod, jL_div, jL_mod] at c2 c3 c4 c5 c6
      rw [if_pos (by simp only [decide_eq_true_eq]; omega)]
      exact jRe rfl
/-- FormHouseModel.step()V; cuts at [12, 36, 46, 50, 51, 65] -/
def cl_199_2 : List mj_E := (90, false, .lload 5, 2, 0, 0, 0, 0, 0) ::
  (92, false, .invokevirtual 150, 3, 194, 2, 17, 0, 0) ::
  (95, false, .return_, 1, 0, 0, 0, 0, 0) ::
  []
def cl_199_1 : List mj_E := (50, true, .lstore_n 3, 1, 0, 0, 0, 0, 0) ::
  (51, true, .lload_n 3, 1, 0, 0, 0, 0, 0) ::
  (52, false, .lload_n 3, 1, 0, 0, 0, 0, 0) ::
  (53, false, .aload_n 0, 1, 0, 0, 0, 0, 0) ::
  (54, false, .getfield 135, 3, 17, 51, 1, 0, 0) ::
  (57, false, .ladd, 1, 0, 0, 0, 0, 0) ::
  (58, false, .lload_n 1, 1, 0, 0, 0, 0, 0) ::
  (59, false, .invokestatic 143, 3, 200, 2, 0, 0, 0) ::
  (62, false, .lsub, 1, 0, 0, 0, 0, 0) ::
  (63, false, .lstore 5, 2, 0, 0, 0, 0, 0) ::
  (65, true, .aload_n 0, 1, 0, 0, 0, 0, 0) ::
  (66, false, .aload_n 0, 1, 0, 0, 0, 0, 0) ::
  (67, false, .getfield 135, 3, 17, 51, 1, 0, 0) ::
  (70, false, .lload 5, 2, 0, 0, 0, 0, 0) ::
  (72, false, .ladd, 1, 0, 0, 0, 0, 0) ::
  (73, false, .ldc2_w 130, 3, 0, 0, 0, 0, jL 2) ::
  (76, false, .aload_n 0, 1, 0, 0, 0, 0, 0) ::
  (77, false, .getfield 140, 3, 17, 52, 1, 0, 0) ::
  (80, false, .lmul, 1, 0, 0, 0, 0, 0) ::
  (81, false, .ldiv, 1, 0, 0, 0, 0, 0) ::
  (82, false, .putfield 147, 3, 17, 53, 1, 0, 0) ::
  (85, false, .aload_n 0, 1, 0, 0, 0, 0, 0) ::
  (86, false, .aload_n 0, 1, 0, 0, 0, 0, 0) ::
  (87, false, .getfield 140, 3, 17, 52, 1, 0, 0) ::
  cl_199_2
def cl_199_0 : List mj_E := (0, false, .ldc2_w 130, 3, 0, 0, 0, 0, jL 2) ::
  (3, false, .aload_n 0, 1, 0, 0, 0, 0, 0) ::
  (4, false, .getfield 140, 3, 17, 52, 1, 0, 0) ::
  (7, false, .invokestatic 124, 3, 196, 1, 0, 0, 0) ::
  (10, false, .lmul, 1, 0, 0, 0, 0, 0) ::
  (11, false, .lstore_n 1, 1, 0, 0, 0, 0, 0) ::
  (12, true, .aload_n 0, 1, 0, 0, 0, 0, 0) ::
  (13, false, .getfield 9, 3, 17, 1, 1, 0, 0) ::
  (16, false, .lconst 0, 1, 0, 0, 0, 0, jL 0) ::
  (17, false, .lcmp, 1, 0, 0, 0, 0, 0) ::
  (18, false, .ifCond .lt 18, 3, 18, 0, 0, 0, 0) ::
  (21, false, .aload_n 0, 1, 0, 0, 0, 0, 0) ::
  (22, false, .getfield 140, 3, 17, 52, 1, 0, 0) ::
  (25, false, .invokestatic 124, 3, 196, 1, 0, 0, 0) ::
  (28, false, .aload_n 0, 1, 0, 0, 0, 0, 0) ::
  (29, false, .getfield 17, 3, 17, 2, 1, 0, 0) ::
  (32, false, .lcmp, 1, 0, 0, 0, 0, 0) ::
  (33, false, .ifCond .le 13, 3, 22, 0, 0, 0, 0) ::
  (36, true, .aload_n 0, 1, 0, 0, 0, 0, 0) ::
  (37, false, .getfield 140, 3, 17, 52, 1, 0, 0) ::
  (40, false, .invokestatic 124, 3, 196, 1, 0, 0, 0) ::
  (43, false, .goto 7, 3, 24, 0, 0, 0, 0) ::
  (46, true, .aload_n 0, 1, 0, 0, 0, 0, 0) ::
  (47, false, .getfield 17, 3, 17, 2, 1, 0, 0) ::
  cl_199_1
def cd_199 : List mj_E := cl_199_0
def cx_199 : mj_X := (0, [], [])
theorem tb_199 : mj_tab (mj_mt 199) cx_199 cd_199 mj_mh [(6218, 0, 0), (0, 0, 0), (7151, 0, 0), (6233, 0, 0), (0, 0, 0), (0, 0, 0), (0, 0, 0), (7100, 0, 0), (0, 0, 0), (0, 0, 0), (0, 0, 0), (0, 0, 0), (7151, 0, 0), (6233, 0, 0), (0, 0, 0), (7101, 0, 0), (0, 0, 0), (0, 0, 0), (0, 0, 0), (7151, 0, 0), (6233, 0, 0), (0, 0, 0), (0, 0, 0), (7101, 0, 0), (0, 0, 0), (0, 0, 0), (0, 0, 0), (0, 0, 0), (7150, 0, 0), (0, 0, 0), (0, 0, 0), (7007, 0, 0), (0, 0, 0), (0, 0, 0), (0, 0, 0), (0, 0, 0), (7150, 0, 0), (0, 0, 0), (0, 0, 0), (6218, 0, 0), (0, 0, 0), (7151, 0, 0), (0, 0, 0), (0, 0, 0), (7152, 0, 0), (0, 0, 0), (0, 0, 0), (7151, 0, 0), (0, 0, 0), (6225, 0, 0), (0, 0, 0)] = true := mj_tab_f (by decide +kernel)
theorem ct_199 (G : mj_G) {h : mj_H} (L : isLam h) {d w : Int} (hw : isMw h d w) (hd : -1099511627776 < d ∧ d < 1099511627776) (hwb : -1 ≤ w ∧ w < 2147483648) {f : Fm} (hf : isMm h f) (ho : okF f) : mj_Ct G (mj_mt 199) 0 0 [.ref 1412] h (fun o h' => o = .returned none ∧ isMm h' (nx d w f) ∧ hJ h' 1412 53 = jL (nkE d w f.2.1 f.2.2) ∧ FrM noT jF noT h h') := by
  obtain ⟨o1, o2, o3, o4⟩ := ho
  obtain ⟨f1, f2, f3⟩ := hf
  have w1 := hw.1
  have w2 := hw.2
  have k := L.K 1412 rfl
  have hsq := nbE_sq (d := d) (w := w) (b := f.2.1) o4 (by omega) hwb
  refine mj_Ct_of mj_ok tb_199 rfl rfl (Nat.le_of_ble_eq_true rfl) (fun Run hR => ?_)
  have r65 : ∀ (nL hL eL : Int64), eL = jL (nbE d w f.2.1 f.2.2) → Run 65 [some (.ref 1412), some (.long nL), none, some (.long hL), none, some (.long eL), none] [] h (0, 0) := by
    rintro nL hL eL rfl
    refine hR 100 34 _ _ _ _ _ _ rfl ?_
    refine ⟨k, k, ?_, k, k, ?_⟩
    · rw [f3]
      simp (disch := omega) only [mj_lcm, jI_lt, jI_le, jI_eq, jL_lt, jL_le, jL_eq, jI_lt0, jI_0le, jI_0lt, jI_le0, jI_eq0, jL_eq0, jI_L, jI_add, jI_sub, jI_mul, jI_neg, jL_add, jL_sub, jL_mul, jL_neg, jL_I, jI_div, jI_mod, jL_div, jL_mod]
      omega
    · have F1 : FrM noT jF noT h (sJ h 1412 53 ((hJ h 1412 51 + jL (nbE d w f.2.1 f.2.2)) / (jL 2 * hJ h 1412 52))) := (FrM.refl _ _ _ h).fJ (by omega) _
      have c194 := ct_194 G (F1.lay L) (hw.M F1 (by omega) (by omega)) hd (x := f.2.2) (y := nbE d w f.2.1 f.2.2) o4 (by omega) ⟨hsq.1, hsq.2.1⟩
      rw [← f3] at c194
      refine ⟨k, jcallP c194 ?_⟩
      rintro o h3 ⟨rfl, m3, F3⟩
      refine ⟨rfl, m3, ?_, F1.trans (F3.mono (fun _ z => z) (fun _ z => by omega) (fun _ z => z))⟩
      refine ((F3.2.2.2 53 (by omega)).trans (sJ_at _ _ _ _)).trans ?_
      rw [f2, f3, jL_add, jL_mul, jL_div (by omega) (by omega) (by omega) (by omega)]
      rfl
  have r51 : ∀ (hL : Int64) (x5 x6 : Option Value), hL = jL (hiE d w f.2.2) → Run 51 [some (.ref 1412), some (.long (jL (2 * f.2.2.natAbs))), none, some (.long hL), none, x5, x6] [] h (0, 0) := by
    rintro hL x5 x6 rfl
    have hh : 0 ≤ hiE d w f.2.2 ∧ hiE d w f.2.2 < 2147483648 := by
      unfold hiE
      split <;> omega
    have c200 := ct_200 G (x := hiE d w f.2.2 + f.2.1) (y := 2 * (f.2.2.natAbs : Int)) (by omega) (by omega) (by omega) (by omega) h
    rw [← jL_add, ← f2] at c200
    refine hR 100 25 _ _ _ _ _ _ rfl ?_
    refine ⟨k, jcall c200 ?_⟩
    refine r65 _ _ _ ?_
    rw [jL_sub]
    rfl
  have r50 : ∀ (hL : Int64) (x3 x4 x5 x6 : Option Value), hL = jL (hiE d w f.2.2) → Run 50 [some (.ref 1412), some (.long (jL (2 * f.2.2.natAbs))), none, x3, x4, x5, x6] [.long hL] h (0, 0) := by
    rintro hL x3 x4 x5 x6 e
    refine hR 100 24 _ _ _ _ _ _ rfl ?_
    exact r51 _ _ _ e
  have r36 : ∀ (x3 x4 x5 x6 : Option Value), (d < 0 ∨ w < f.2.2.natAbs) → Run 36 [some (.ref 1412), some (.long (jL (2 * f.2.2.natAbs))), none, x3, x4, x5, x6] [] h (0, 0) := by
    intro x3 x4 x5 x6 g
    refine hR 100 18 _ _ _ _ _ _ rfl ?_
    refine ⟨k, ?_⟩
    rw [f3]
    refine jcall (ct_196 G (by omega) (by omega) h) ?_
    refine r50 _ _ _ _ _ ?_
    unfold hiE
    rw [if_pos g]
  have r46 : ∀ (x3 x4 x5 x6 : Option Value), ¬ (d < 0 ∨ w < f.2.2.natAbs) → Run 46 [some (.ref 1412), some (.long (jL (2 * f.2.2.natAbs))), none, x3, x4, x5, x6] [] h (0, 0) := by
    intro x3 x4 x5 x6 g
    refine hR 100 22 _ _ _ _ _ _ rfl ?_
    refine ⟨k, ?_⟩
    refine r50 _ _ _ _ _ ?_
    rw [w2]
    unfold hiE
    rw [if_neg g]
  have r12 : ∀ (nL : Int64) (x3 x4 x5 x6 : Option Value), nL = jL (2 * f.2.2.natAbs) → Run 12 [some (.ref 1412), some (.long nL), none, x3, x4, x5, x6] [] h (0, 0) := by
    rintro nL x3 x4 x5 x6 rfl
    refine hR 100 6 _ _ _ _ _ _ rfl ?_
    refine ⟨k, fun c => ?_, fun c => ⟨k, ?_⟩⟩
    · simp only [mj_lcm, w1] at c
      simp (disch := omega) only [mj_lcm, jI_lt, jI_le, jI_eq, jL_lt, jL_le, jL_eq, jI_lt0, jI_0le, jI_0lt, jI_le0, jI_eq0, jL_eq0, jI_L, jI_add, jI_sub, jI_mul, jI_neg, jL_add, jL_sub, jL_mul, jL_neg, jL_I, jI_div, jI_mod, jL_div, jL_mod] at c
      exact r36 _ _ _ _ (Or.inl c)
    · rw [f3]
      refine jcall (ct_196 G (by omega) (by omega) h) ?_
      refine ⟨k, fun c2 => ?_, fun c2 => ?_⟩
      · simp only [mj_lcm, w1, w2] at c c2
        simp (disch := omega) only [mj_lcm, jI_lt, jI_le, jI_eq, jL_lt, jL_le, jL_eq, jI_lt0, jI_0le, jI_0lt, jI_le0, jI_eq0, jL_eq0, jI_L, jI_add, jI_sub, jI_mul, jI_neg, jL_add, jL_sub, jL_mul, jL_neg, jL_I, jI_div, jI_mod, jL_div, jL_mod] at c c2
        exact r46 _ _ _ _ (by omega)
      · simp only [mj_lcm, w1, w2] at c c2
        simp (disch := omega) only [mj_lcm, jI_lt, jI_le, jI_eq, jL_lt, jL_le, jL_eq, jI_lt0, jI_0le, jI_0lt, jI_le0, jI_eq0, jL_eq0, jI_L, jI_add, jI_sub, jI_mul, jI_neg, jL_add, jL_sub, jL_mul, jL_neg, jL_I, jI_div, jI_mod, jL_div, jL_mod] at c c2
        exact r36 _ _ _ _ (by omega)
  refine hR 100 0 _ _ _ _ _ _ rfl ?_
  refine ⟨k, ?_⟩
  rw [f3]
  refine jcall (ct_196 G (by omega) (by omega) h) ?_
  exact r12 _ _ _ _ _ (by rw [jL_mul])
def slF (k : Int) (f : Fm) : Fm := (f.1, f.2.1 + 2 * f.1 * k, f.1 * k * k + f.2.1 * k + f.2.2)
/-- FormHouseModel.slide(J)V; cuts at [] -/
def cd_207 : List mj_E := [(0, false, .aload_n 0, 1, 0, 0, 0, 0, 0),
  (1, false, .aload_n 0, 1, 0, 0, 0, 0, 0),
  (2, false, .getfield 132, 3, 17, 50, 1, 0, 0),
  (5, false, .lload_n 1, 1, 0, 0, 0, 0, 0),
  (6, false, .lmul, 1, 0, 0, 0, 0, 0),
  (7, false, .lload_n 1, 1, 0, 0, 0, 0, 0),
  (8, false, .lmul, 1, 0, 0, 0, 0, 0),
  (9, false, .aload_n 0, 1, 0, 0, 0, 0, 0),
  (10, false, .getfield 135, 3, 17, 51, 1, 0, 0),
  (13, false, .lload_n 1, 1, 0, 0, 0, 0, 0),
  (14, false, .lmul, 1, 0, 0, 0, 0, 0),
  (15, false, .ladd, 1, 0, 0, 0, 0, 0),
  (16, false, .aload_n 0, 1, 0, 0, 0, 0, 0),
  (17, false, .getfield 140, 3, 17, 52, 1, 0, 0),
  (20, false, .ladd, 1, 0, 0, 0, 0, 0),
  (21, false, .putfield 140, 3, 17, 52, 1, 0, 0),
  (24, false, .aload_n 0, 1, 0, 0, 0, 0, 0),
  (25, false, .aload_n 0, 1, 0, 0, 0, 0, 0),
  (26, false, .getfield 135, 3, 17, 51, 1, 0, 0),
  (29, false, .ldc2_w 130, 3, 0, 0, 0, 0, jL 2),
  (32, false, .aload_n 0, 1, 0, 0, 0, 0, 0),
  (33, false, .getfield 132, 3, 17, 50, 1, 0, 0),
  (36, false, .lmul, 1, 0, 0, 0, 0, 0),
  (37, false, .lload_n 1, 1, 0, 0, 0, 0, 0),
  (38, false, .lmul, 1, 0, 0, 0, 0, 0),
  (39, false, .ladd, 1, 0, 0, 0, 0, 0),
  (40, false, .putfield 135, 3, 17, 51, 1, 0, 0),
  (43, false, .return_, 1, 0, 0, 0, 0, 0)]
def cx_207 : mj_X := (0, [], [])
theorem tb_207 : mj_tab (mj_mt 207) cx_207 cd_207 mj_mh [(0, 0, 0), (0, 0, 0), (7149, 0, 0), (0, 0, 0), (0, 0, 0), (0, 0, 0), (0, 0, 0), (0, 0, 0), (7150, 0, 0), (0, 0, 0), (0, 0, 0), (0, 0, 0), (0, 0, 0), (7151, 0, 0), (0, 0, 0), (7151, 0, 0), (0, 0, 0), (0, 0, 0), (7150, 0, 0), (6218, 0, 0), (0, 0, 0), (7149, 0, 0), (0, 0, 0), (0, 0, 0), (0, 0, 0), (0, 0, 0), (7150, 0, 0), (0, 0, 0)] = true := mj_tab_f (by decide +kernel)
theorem ct_207 (G : mj_G) {h : mj_H} (L : isLam h) {f : Fm} (hf : isMm h f) (k : Int) : mj_Ct G (mj_mt 207) 0 0 [.ref 1412, .long (jL k)] h (jMm (slF k f) h) := by
  obtain ⟨f1, f2, f3⟩ := hf
  have z := L.K 1412 rfl
  refine mj_Ct_of mj_ok tb_207 rfl rfl (Nat.le_of_ble_eq_true rfl) (fun Run hR => ?_)
  refine hR 60 0 _ _ _ _ _ _ rfl ?_
  refine ⟨z, z, z, z, z, z, z, rfl, ⟨f1, ?_, ?_⟩, ((FrM.refl _ _ _ h).fJ (by omega) _).fJ (by omega) _⟩
  · refine (sJ_at _ _ _ _).trans ?_
    show hJ h 1412 51 + jL 2 * hJ h 1412 50 * jL k = _
    rw [f1, f2, jL_mul, jL_mul, jL_add]
    rfl
  · show hJ h 1412 50 * jL k * jL k + hJ h 1412 51 * jL k + hJ h 1412 52 = _
    rw [f1, f2, f3, jL_mul, jL_mul, jL_mul, jL_add, jL_add]
    rfl
def toF (f : Fm) : Fm := (f.2.2, -f.2.1, f.1)
/-- FormHouseModel.turnOver()V; cuts at [5] -/
def cd_208 : List mj_E := [(0, false, .aload_n 0, 1, 0, 0, 0, 0, 0),
  (1, false, .getfield 132, 3, 17, 50, 1, 0, 0),
  (4, false, .lstore_n 1, 1, 0, 0, 0, 0, 0),
  (5, true, .aload_n 0, 1, 0, 0, 0, 0, 0),
  (6, false, .aload_n 0, 1, 0, 0, 0, 0, 0),
  (7, false, .getfield 140, 3, 17, 52, 1, 0, 0),
  (10, false, .putfield 132, 3, 17, 50, 1, 0, 0),
  (13, false, .aload_n 0, 1, 0, 0, 0, 0, 0),
  (14, false, .aload_n 0, 1, 0, 0, 0, 0, 0),
  (15, false, .getfield 135, 3, 17, 51, 1, 0, 0),
  (18, false, .lneg, 1, 0, 0, 0, 0, 0),
  (19, false, .putfield 135, 3, 17, 51, 1, 0, 0),
  (22, false, .aload_n 0, 1, 0, 0, 0, 0, 0),
  (23, false, .lload_n 1, 1, 0, 0, 0, 0, 0),
  (24, false, .putfield 140, 3, 17, 52, 1, 0, 0),
  (27, false, .return_, 1, 0, 0, 0, 0, 0)]
def cx_208 : mj_X := (0, [], [])
theorem tb_208 : mj_tab (mj_mt 208) cx_208 cd_208 mj_mh [(0, 0, 0), (7149, 0, 0), (0, 0, 0), (0, 0, 0), (0, 0, 0), (7151, 0, 0), (7149, 0, 0), (0, 0, 0), (0, 0, 0), (7150, 0, 0), (0, 0, 0), (7150, 0, 0), (0, 0, 0), (0, 0, 0), (7151, 0, 0), (0, 0, 0)] = true := mj_tab_f (by decide +kernel)
theorem ct_208 (G : mj_G) {h : mj_H} (L : isLam h) {f : Fm} (hf : isMm h f) : mj_Ct G (mj_mt 208) 0 0 [.ref 1412] h (jMm (toF f) h) := by
  obtain ⟨f1, f2, f3⟩ := hf
  have z := L.K 1412 rfl
  refine mj_Ct_of mj_ok tb_208 rfl rfl (Nat.le_of_ble_eq_true rfl) (fun Run hR => ?_)
  have r5 : Run 5 [some (.ref 1412), some (.long (jL f.1)), none] [] h (0, 0) := by
    refine hR 60 3 _ _ _ _ _ _ rfl ?_
    refine ⟨z, z, z, z, z, rfl, ⟨f3, ?_, rfl⟩, (((FrM.refl _ _ _ h).fJ (by omega) _).fJ (by omega) _).fJ (by omega) _⟩
    show -(hJ h 1412 51) = _
    rw [f2, jL_neg]
    rfl
  refine hR 60 0 _ _ _ _ _ _ rfl ?_
  refine ⟨z, ?_⟩
  rw [f1]
  exact r5
/-- the model's table -/
def isMa (h : mj_H) (n : Nat) (A : Nat → pI) : Prop := hI h 1412 3 = jI n ∧ n ≤ 40960 ∧ ∀ i, i < n → hI h 1413 i = jI (A i).1 ∧ hI h 1414 i = jI (A i).2 ∧ (-1073741824 < (A i).1 ∧ (A i).1 < 1073741824) ∧ (-1073741824 < (A i).2 ∧ (A i).2 < 1073741824)
def isMc (h : mj_H) (n : Nat) (cls : Nat → Int) (cnt : Nat) (nm : Nat → Nat) : Prop := hI h 1412 7 = jI cnt ∧ (∀ i, i < n → hI h 1415 i = jI (cls i)) ∧ ∀ i, i < cnt → hI h 1416 i = jI (nm i)
theorem isMa.M {I J S : Nat → Prop} {h h' : mj_H} (f : FrM I J S h h') {n : Nat} {A : Nat → pI} (a : isMa h n A) (h1 : ¬ I 3) (h2 : ¬ S 1413) (h3 : ¬ S 1414) : isMa h' n A := ⟨(f.2.2.1 3 h1).trans a.1, a.2.1, fun i hi => ⟨(f.I (by decide) h2 _).trans (a.2.2 i hi).1, (f.I (by decide) h3 _).trans (a.2.2 i hi).2.1, (a.2.2 i hi).2.2⟩⟩
theorem isMc.M {I J S : Nat → Prop} {h h' : mj_H} (f : FrM I J S h h') {n : Nat} {cls : Nat → Int} {cnt : Nat} {nm : Nat → Nat} (a : isMc h n cls cnt nm) (h1 : ¬ I 7) (h2 : ¬ S 1415) (h3 : ¬ S 1416) : isMc h' n cls cnt nm := ⟨(f.2.2.1 7 h1).trans a.1, fun i hi => (f.I (by decide) h2 _).trans (a.2.1 i hi), fun i hi => (f.I (by decide) h3 _).trans (a.2.2 i hi)⟩
/-- FormHouseModel.place()I; cuts at [2, 9, 20, 65, 72] -/
def cl_201_2 : List mj_E := (72, true, .iload_n 3, 1, 0, 0, 0, 0, 0) ::
  (73, false, .istore_n 2, 1, 0, 0, 0, 0, 0) ::
  (74, false, .goto (-65), 3, 7, 0, 0, 0, 0) ::
  (77, false, .iload_n 1, 1, 0, 0, 0, 0, 0) ::
  (78, false, .ireturn, 1, 0, 0, 0, 0, 0) ::
  []
def cl_201_1 : List mj_E := (32, false, .ifCond .lt 33, 3, 43, 0, 0, 0, 0) ::
  (35, false, .aload_n 0, 1, 0, 0, 0, 0, 0) ::
  (36, false, .getfield 21, 3, 17, 4, 2, 0, 0) ::
  (39, false, .iload_n 3, 1, 0, 0, 0, 0, 0) ::
  (40, false, .iaload, 1, 0, 0, 0, 0, 0) ::
  (41, false, .i2l, 1, 0, 0, 0, 0, 0) ::
  (42, false, .aload_n 0, 1, 0, 0, 0, 0, 0) ::
  (43, false, .getfield 132, 3, 17, 50, 1, 0, 0) ::
  (46, false, .lcmp, 1, 0, 0, 0, 0, 0) ::
  (47, false, .ifCond .ne 25, 3, 48, 0, 0, 0, 0) ::
  (50, false, .aload_n 0, 1, 0, 0, 0, 0, 0) ::
  (51, false, .getfield 25, 3, 17, 5, 2, 0, 0) ::
  (54, false, .iload_n 3, 1, 0, 0, 0, 0, 0) ::
  (55, false, .iaload, 1, 0, 0, 0, 0, 0) ::
  (56, false, .i2l, 1, 0, 0, 0, 0, 0) ::
  (57, false, .aload_n 0, 1, 0, 0, 0, 0, 0) ::
  (58, false, .getfield 135, 3, 17, 51, 1, 0, 0) ::
  (61, false, .lcmp, 1, 0, 0, 0, 0, 0) ::
  (62, false, .ifCond .ge 10, 3, 48, 0, 0, 0, 0) ::
  (65, true, .iload_n 3, 1, 0, 0, 0, 0, 0) ::
  (66, false, .iconst 1, 1, 0, 0, 0, jI 1, 0) ::
  (67, false, .iadd, 1, 0, 0, 0, 0, 0) ::
  (68, false, .istore_n 1, 1, 0, 0, 0, 0, 0) ::
  (69, false, .goto 5, 3, 50, 0, 0, 0, 0) ::
  cl_201_2
def cl_201_0 : List mj_E := (0, false, .iconst 0, 1, 0, 0, 0, jI 0, 0) ::
  (1, false, .istore_n 1, 1, 0, 0, 0, 0, 0) ::
  (2, true, .aload_n 0, 1, 0, 0, 0, 0, 0) ::
  (3, false, .getfield 154, 3, 17, 3, 0, 0, 0) ::
  (6, false, .iconst 1, 1, 0, 0, 0, jI 1, 0) ::
  (7, false, .isub, 1, 0, 0, 0, 0, 0) ::
  (8, false, .istore_n 2, 1, 0, 0, 0, 0, 0) ::
  (9, true, .iload_n 1, 1, 0, 0, 0, 0, 0) ::
  (10, false, .iload_n 2, 1, 0, 0, 0, 0, 0) ::
  (11, false, .if_icmp .ge 66, 3, 51, 0, 0, 0, 0) ::
  (14, false, .iload_n 1, 1, 0, 0, 0, 0, 0) ::
  (15, false, .iload_n 2, 1, 0, 0, 0, 0, 0) ::
  (16, false, .iadd, 1, 0, 0, 0, 0, 0) ::
  (17, false, .iconst 2, 1, 0, 0, 0, jI 2, 0) ::
  (18, false, .idiv, 1, 0, 0, 0, 0, 0) ::
  (19, false, .istore_n 3, 1, 0, 0, 0, 0, 0) ::
  (20, true, .aload_n 0, 1, 0, 0, 0, 0, 0) ::
  (21, false, .getfield 21, 3, 17, 4, 2, 0, 0) ::
  (24, false, .iload_n 3, 1, 0, 0, 0, 0, 0) ::
  (25, false, .iaload, 1, 0, 0, 0, 0, 0) ::
  (26, false, .i2l, 1, 0, 0, 0, 0, 0) ::
  (27, false, .aload_n 0, 1, 0, 0, 0, 0, 0) ::
  (28, false, .getfield 132, 3, 17, 50, 1, 0, 0) ::
  (31, false, .lcmp, 1, 0, 0, 0, 0, 0) ::
  cl_201_1
def cd_201 : List mj_E := cl_201_0
def cx_201 : mj_X := (1, [], [])
theorem tb_201 : mj_tab (mj_mt 201) cx_201 cd_201 mj_mh [(0, 0, 0), (0, 0, 0), (0, 0, 0), (7102, 0, 0), (0, 0, 0), (0, 0, 0), (0, 0, 0), (0, 0, 0), (0, 0, 0), (0, 0, 0), (0, 0, 0), (0, 0, 0), (0, 0, 0), (0, 0, 0), (0, 0, 0), (0, 0, 0), (0, 0, 0), (7103, 0, 0), (0, 0, 0), (0, 0, 0), (0, 0, 0), (0, 0, 0), (7149, 0, 0), (0, 0, 0), (0, 0, 0), (0, 0, 0), (7103, 0, 0), (0, 0, 0), (0, 0, 0), (0, 0, 0), (0, 0, 0), (7149, 0, 0), (0, 0, 0), (0, 0, 0), (0, 0, 0), (7104, 0, 0), (0, 0, 0), (0, 0, 0), (0, 0, 0), (0, 0, 0), (7150, 0, 0), (0, 0, 0), (0, 0, 0), (0, 0, 0), (0, 0, 0), (0, 0, 0), (0, 0, 0), (0, 0, 0), (0, 0, 0), (0, 0, 0), (0, 0, 0), (0, 0, 0), (0, 0, 0)] = true := mj_tab_f (by decide +kernel)
theorem ct_201 (G : mj_G) {h : mj_H} (L : isLam h) {n : Nat} {A : Nat → pI} (hA : isMa h n A) (hS : sst n A) {f : Fm} (hf : isMm h f) {k : Nat} (hk : k < n) (hfk : f.1 = (A k).1 ∧ f.2.1 = (A k).2) : mj_Ct G (mj_mt 201) 0 0 [.ref 1412] h (jR (.int (jI k)) h) := by
  obtain ⟨f1, f2, f3⟩ := hf
  obtain ⟨a1, a2, a3⟩ := hA
  have z := L.K 1412 rfl
  obtain ⟨-, -, bk1, bk2⟩ := a3 k hk
  rw [hfk.1] at f1
  rw [hfk.2] at f2
  refine mj_Ct_of mj_ok tb_201 rfl rfl (Nat.le_of_ble_eq_true rfl) (fun Run hR => ?_)
  have r9 : ∀ (m lo hi : Nat) (lI hI' : Int32) (x3 : Option Value), hi ≤ lo + m → lo ≤ k → k ≤ hi → hi < n → lI = jI lo → hI' = jI hi → Run 9 [some (.ref 1412), some (.int lI), some (.int hI'), x3] [] h (0, 0) := by
    intro m
    induction m with
    | zero =>
      rintro lo hi lI hI' x3 hm h1 h2 h3 rfl rfl
      refine hR 60 7 _ _ _ _ _ _ rfl ?_
      refine ⟨fun c => ?_, fun c => ?_⟩
      · exact jRe (by rw [show lo = k by omega])
      · simp (disch := omega) only [mj_lcm, jI_lt, jI_le, jI_eq, jL_lt, jL_le, jL_eq, jI_lt0, jI_0le, jI_0lt, jI_le0, jI_eq0, jL_eq0, jI_L, jI_add, jI_sub, jI_mul, jI_neg, jL_add, jL_sub, jL_mul, jL_neg, jL_I, jI_div, jI_mod, jL_div, jL_mod] at c
        omega
    | succ m ih =>
      rintro lo hi lI hI' x3 hm h1 h2 h3 rfl rfl
      have r65 : ∀ mid : Nat, lo ≤ mid → mid < k → Run 65 [some (.ref 1412), some (.int (jI lo)), some (.int (jI hi)), some (.int (jI mid))] [] h (0, 0) := by
        intro mid m1 m2
        refine hR 60 43 _ _ _ _ _ _ rfl ?_
        exact ih (mid + 1) hi _ _ _ (by omega) (by omega) h2 h3 (by rw [jI_add]; rfl) rfl
      have r72 : ∀ mid : Nat, mid < hi → k ≤ mid → Run 72 [some (.ref 1412), some (.int (jI lo)), some (.int (jI hi)), some (.int (jI mid))] [] h (0, 0) := by
        intro mid m1 m2
        refine hR 60 48 _ _ _ _ _ _ rfl ?_
        exact ih lo mid _ _ _ (by omega) h1 m2 (by omega) rfl rfl
      have r20 : ∀ (mid : Nat) (mI : Int32), lo ≤ mid → mid < hi → mI = jI mid → Run 20 [some (.ref 1412), some (.int (jI lo)), some (.int (jI hi)), some (.int mI)] [] h (0, 0) := by
        rintro mid mI m1 m2 rfl
        obtain ⟨b1, b2, b3, b4⟩ := a3 mid (by omega)
        have nat : (jI (mid : Int)).toNatClampNeg = mid := by rw [jI_nat (by omega) (by omega), Int.toNat_natCast]
        have v1 : vp_in (jI (mid : Int)) (hN h 1413) := by
          rw [show hN h 1413 = 40960 from L.N 1412 rfl]
          exact jI_in (by omega) (by omega) (by omega)
        have v2 : vp_in (jI (mid : Int)) (hN h 1414) := by
          rw [show hN h 1414 = 40960 from L.N 1413 rfl]
          exact jI_in (by omega) (by omega) (by omega)
        have e1 : (hI h 1413 (jI (mid : Int)).toNatClampNeg).toInt64 = jL (A mid).1 := by rw [nat, b1, jI_L (by omega) (by omega)]
        have e2 : (hI h 1414 (jI (mid : Int)).toNatClampNeg).toInt64 = jL (A mid).2 := by rw [nat, b2, jI_L (by omega) (by omega)]
        have lt : mid < k → (A mid).1 < (A k).1 ∨ ((A mid).1 = (A k).1 ∧ (A mid).2 < (A k).2) := fun q => hS mid k q hk
        have ge : ¬ mid < k → ¬ ((A mid).1 < (A k).1 ∨ ((A mid).1 = (A k).1 ∧ (A mid).2 < (A k).2)) := by
          intro q
          by_cases e : mid = k
          · rw [e]
            omega
          · have := hS k mid (by omega) (by omega)
            omega
        have up : ((A mid).1 < (A k).1 ∨ ((A mid).1 = (A k).1 ∧ (A mid).2 < (A k).2)) → mid < k := fun z => Decidable.byContradiction (fun q => ge q z)
        have dn : ¬ ((A mid).1 < (A k).1 ∨ ((A mid).1 = (A k).1 ∧ (A mid).2 < (A k).2)) → k ≤ mid := fun z => Nat.le_of_not_lt (fun q => z (lt q))
        refine hR 60 16 _ _ _ _ _ _ rfl ?_
        refine ⟨z, _, L.R 1412 4 _ rfl, Or.inl (L.K 1413 rfl), v1, z, fun c => ?_, fun c => ⟨z, _, L.R 1412 4 _ rfl, Or.inl (L.K 1413 rfl), v1, z, fun c2 => ⟨z, _, L.R 1412 5 _ rfl, Or.inl (L.K 1414 rfl), v2, z, fun c3 => ?_, fun c3 => ?_⟩, fun c2 => ?_⟩⟩
        · simp only [mj_lcm, e1, f1] at c
          simp (disch := omega) only [mj_lcm, jI_lt, jI_le, jI_eq, jL_lt, jL_le, jL_eq, jI_lt0, jI_0le, jI_0lt, jI_le0, jI_eq0, jL_eq0, jI_L, jI_add, jI_sub, jI_mul, jI_neg, jL_add, jL_sub, jL_mul, jL_neg, jL_I, jI_div, jI_mod, jL_div, jL_mod] at c
          exact r65 mid m1 (up (by omega))
        · simp only [mj_lcm, e1, e2, f1, f2] at c c2 c3
          simp (disch := omega) only [mj_lcm, jI_lt, jI_le, jI_eq, jL_lt, jL_le, jL_eq, jI_lt0, jI_0le, jI_0lt, jI_le0, jI_eq0, jL_eq0, jI_L, jI_add, jI_sub, jI_mul, jI_neg, jL_add, jL_sub, jL_mul, jL_neg, jL_I, jI_div, jI_mod, jL_div, jL_mod] at c c2 c3
          exact r72 mid m2 (dn (by omega))
        · simp only [mj_lcm, e1, e2, f1, f2] at c c2 c3
          simp (disch := omega) only [mj_lcm, jI_lt, jI_le, jI_eq, jL_lt, jL_le, jL_eq, jI_lt0, jI_0le, jI_0lt, jI_le0, jI_eq0, jL_eq0, jI_L, jI_add, jI_sub, jI_mul, jI_neg, jL_add, jL_sub, jL_mul, jL_neg, jL_I, jI_div, jI_mod, jL_div, jL_mod] at c c2 c3
          exact r65 mid m1 (up (by omega))
        · simp only [mj_lcm, e1, f1] at c c2
          simp (disch := omega) only [mj_lcm, jI_lt, jI_le, jI_eq, jL_lt, jL_le, jL_eq, jI_lt0, jI_0le, jI_0lt, jI_le0, jI_eq0, jL_eq0, jI_L, jI_add, jI_sub, jI_mul, jI_neg, jL_add, jL_sub, jL_mul, jL_neg, jL_I, jI_div, jI_mod, jL_div, jL_mod] at c c2
          exact r72 mid m2 (dn (by omega))
      refine hR 60 7 _ _ _ _ _ _ rfl ?_
      refine ⟨fun c => ?_, fun c => ⟨by decide, ?_⟩⟩
      · simp (disch := omega) only [mj_lcm, jI_lt, jI_le, jI_eq, jL_lt, jL_le, jL_eq, jI_lt0, jI_0le, jI_0lt, jI_le0, jI_eq0, jL_eq0, jI_L, jI_add, jI_sub, jI_mul, jI_neg, jL_add, jL_sub, jL_mul, jL_neg, jL_I, jI_div, jI_mod, jL_div, jL_mod] at c
        exact jRe (by rw [show lo = k by omega])
      · simp (disch := omega) only [mj_lcm, jI_lt, jI_le, jI_eq, jL_lt, jL_le, jL_eq, jI_lt0, jI_0le, jI_0lt, jI_le0, jI_eq0, jL_eq0, jI_L, jI_add, jI_sub, jI_mul, jI_neg, jL_add, jL_sub, jL_mul, jL_neg, jL_I, jI_div, jI_mod, jL_div, jL_mod] at c
        refine r20 ((lo + hi) / 2) _ (by omega) (by omega) ?_
        rw [jI_add, jI_div (by omega) (by omega) (by omega) (by omega), Int.tdiv_eq_ediv_of_nonneg (by omega)]
        congr 1
  have r2 : ∀ (x2 x3 : Option Value), Run 2 [some (.ref 1412), some (.int (jI 0)), x2, x3] [] h (0, 0) := by
    intro x2 x3
    refine hR 60 2 _ _ _ _ _ _ rfl ?_
    refine ⟨z, ?_⟩
    rw [a1]
    refine r9 n 0 (n - 1) _ _ _ (by omega) (by omega) (by omega) (by omega) rfl ?_
    rw [jI_sub]
    congr 1
    omega
  refine hR 60 0 _ _ _ _ _ _ rfl ?_
  exact r2 _ _
def posT (d w : Int) : Nat → Fm → Prop
  | 0, f => 0 < f.1
  | n + 1, f => 0 < f.1 ∧ posT d w n (nx d w f)
/-- FormHouseModel.found()I; cuts at [0] -/
def cd_202 : List mj_E := [(0, true, .aload_n 0, 1, 0, 0, 0, 0, 0),
  (1, false, .invokevirtual 162, 3, 195, 0, 17, 0, 0),
  (4, false, .ifCond .ne 10, 3, 6, 0, 0, 0, 0),
  (7, false, .aload_n 0, 1, 0, 0, 0, 0, 0),
  (8, false, .invokevirtual 172, 3, 199, 0, 17, 0, 0),
  (11, false, .goto (-11), 3, 0, 0, 0, 0, 0),
  (14, false, .aload_n 0, 1, 0, 0, 0, 0, 0),
  (15, false, .getfield 28, 3, 17, 6, 2, 0, 0),
  (18, false, .aload_n 0, 1, 0, 0, 0, 0, 0),
  (19, false, .invokevirtual 175, 3, 201, 0, 17, 0, 0),
  (22, false, .iaload, 1, 0, 0, 0, 0, 0),
  (23, false, .ireturn, 1, 0, 0, 0, 0, 0)]
def cx_202 : mj_X := (1, [], [])
theorem tb_202 : mj_tab (mj_mt 202) cx_202 cd_202 mj_mh [(0, 0, 0), (6229, 0, 0), (0, 0, 0), (0, 0, 0), (7003, 0, 0), (0, 0, 0), (0, 0, 0), (7105, 0, 0), (0, 0, 0), (7010, 0, 0), (0, 0, 0), (0, 0, 0)] = true := mj_tab_f (by decide +kernel)
theorem ct_202 (G : mj_G) {h : mj_H} (L : isLam h) {n : Nat} {A : Nat → pI} (hA : isMa h n A) (hS : sst n A) {cls : Nat → Int} {cnt : Nat} {nm : Nat → Nat} (hc : isMc h n cls cnt nm) {d w : Int} (hw : isMw h d w) (hd : -1099511627776 < d ∧ d < 1099511627776) (hd0 : d ≠ 0) (hwb : -1 ≤ w ∧ w < 2147483648) {f : Fm} (hf : isMm h f) {m : Nat} (ht : trm d w m f) (hp : d < 0 → posT d w m f) {k : Nat} (hk : k < n) (hfk : (itF d w m f).1 = (A k).1 ∧ (itF d w m f).2.1 = (A k).2) : mj_Ct G (mj_mt 202) 0 0 [.ref 1412] h (fun o h' => o = .returned (some (.int (jI (cls k)))) ∧ isMm h' (itF d w m f) ∧ FrM noT jF noT h h') := by
  refine mj_Ct_of mj_ok tb_202 rfl rfl (Nat.le_of_ble_eq_true rfl) (fun Run hR => ?_)
  have loop : ∀ (j : Nat) (g : Fm) (h' : mj_H), trm d w j g → (d < 0 → posT d w j g) → itF d w j g = itF d w m f → isMm h' g → FrM noT jF noT h h' → Run 0 [some (.ref 1412)] [] h' (0, 0) := by
    intro j
    induction j with
    | zero =>
      intro g h' tg pg eg mg F
      have L' := F.lay L
      have eg' : g = itF d w m f := eg
      have vin : vp_in (jI (k : Int)) (hN h' 1415) := by
        rw [show hN h' 1415 = 40960 from L'.N 1414 rfl]
        exact jI_in (by omega) (by have := hA.2.1; omega) (by have := hA.2.1; omega)
      have nat : (jI (k : Int)).toNatClampNeg = k := by rw [jI_nat (by omega) (by have := hA.2.1; omega), Int.toNat_natCast]
      refine hR 60 0 _ _ _ _ _ _ rfl ?_
      refine ⟨L'.K 1412 rfl, jcall (ct_195 G L' (hw.M F (by omega) (by omega)) hd hd0 hwb mg tg.1 pg) ?_⟩
      rw [tg.2]
      refine ⟨fun c => ?_, fun c => ?_⟩
      · exact absurd c (by decide)
      · refine ⟨L'.K 1412 rfl, _, L'.R 1412 6 _ rfl, L'.K 1412 rfl, jcall (ct_201 G L' (hA.M F (fun q => q) (fun q => q) (fun q => q)) hS mg hk (by rw [eg']; exact hfk)) ?_⟩
        refine ⟨Or.inl (L'.K 1415 rfl), vin, ?_, ?_, F⟩
        · rw [nat, (hc.M F (fun q => q) (fun q => q) (fun q => q)).2.1 k hk]
        · rw [← eg']
          exact mg
    | succ j ih =>
      intro g h' tg pg eg mg F
      have L' := F.lay L
      refine hR 60 0 _ _ _ _ _ _ rfl ?_
      refine ⟨L'.K 1412 rfl, jcall (ct_195 G L' (hw.M F (by omega) (by omega)) hd hd0 hwb mg tg.1.1 (fun q => (pg q).1)) ?_⟩
      rw [tg.1.2]
      refine ⟨fun c => ?_, fun c => ?_⟩
      · refine ⟨L'.K 1412 rfl, jcallP (ct_199 G L' (hw.M F (by omega) (by omega)) hd hwb mg tg.1.1) ?_⟩
        rintro o h3 ⟨rfl, m3, -, F3⟩
        exact ih (nx d w g) h3 tg.2 (fun q => (pg q).2) eg m3 (F.trans F3)
      · exact absurd rfl c
  exact loop m f h ht hp rfl hf (FrM.refl _ _ _ h)
/-- FormHouseModel.beName(I)V; cuts at [] -/
def cd_205 : List mj_E := [(0, false, .aload_n 0, 1, 0, 0, 0, 0, 0),
  (1, false, .aload_n 0, 1, 0, 0, 0, 0, 0),
  (2, false, .getfield 21, 3, 17, 4, 2, 0, 0),
  (5, false, .aload_n 0, 1, 0, 0, 0, 0, 0),
  (6, false, .getfield 31, 3, 17, 8, 2, 0, 0),
  (9, false, .iload_n 1, 1, 0, 0, 0, 0, 0),
  (10, false, .iaload, 1, 0, 0, 0, 0, 0),
  (11, false, .iaload, 1, 0, 0, 0, 0, 0),
  (12, false, .i2l, 1, 0, 0, 0, 0, 0),
  (13, false, .aload_n 0, 1, 0, 0, 0, 0, 0),
  (14, false, .getfield 25, 3, 17, 5, 2, 0, 0),
  (17, false, .aload_n 0, 1, 0, 0, 0, 0, 0),
  (18, false, .getfield 31, 3, 17, 8, 2, 0, 0),
  (21, false, .iload_n 1, 1, 0, 0, 0, 0, 0),
  (22, false, .iaload, 1, 0, 0, 0, 0, 0),
  (23, false, .iaload, 1, 0, 0, 0, 0, 0),
  (24, false, .i2l, 1, 0, 0, 0, 0, 0),
  (25, false, .invokevirtual 150, 3, 194, 2, 17, 0, 0),
  (28, false, .return_, 1, 0, 0, 0, 0, 0)]
def cx_205 : mj_X := (0, [], [])
theorem tb_205 : mj_tab (mj_mt 205) cx_205 cd_205 mj_mh [(0, 0, 0), (0, 0, 0), (7103, 0, 0), (0, 0, 0), (7107, 0, 0), (0, 0, 0), (0, 0, 0), (0, 0, 0), (0, 0, 0), (0, 0, 0), (7104, 0, 0), (0, 0, 0), (7107, 0, 0), (0, 0, 0), (0, 0, 0), (0, 0, 0), (0, 0, 0), (6225, 0, 0), (0, 0, 0)] = true := mj_tab_f (by decide +kernel)
theorem ct_205 (G : mj_G) {h : mj_H} (L : isLam h) {n : Nat} {A : Nat → pI} (hA : isMa h n A) {cls : Nat → Int} {cnt : Nat} {nm : Nat → Nat} (hc : isMc h n cls cnt nm) {d w : Int} (hw : isMw h d w) (hd : -1099511627776 < d ∧ d < 1099511627776) {c : Nat} (hcc : c < cnt) (hcn : cnt ≤ 4096) (hnm : nm c < n) (h0 : (A (nm c)).1 ≠ 0) : mj_Ct G (mj_mt 205) 0 0 [.ref 1412, .int (jI c)] h (jMm (fmP d (A (nm c))) h) := by
  obtain ⟨a1, a2, a3⟩ := hA
  obtain ⟨b1, b2, b3, b4⟩ := a3 _ hnm
  have z := L.K 1412 rfl
  have e0 : hI h 1416 (jI (c : Int)).toNatClampNeg = jI (nm c) := by
    rw [jI_nat (by omega) (by omega), Int.toNat_natCast]
    exact hc.2.2 c hcc
  have nat : (jI (nm c : Int)).toNatClampNeg = nm c := by rw [jI_nat (by omega) (by omega), Int.toNat_natCast]
  have v0 : vp_in (jI (c : Int)) (hN h 1416) := by
    rw [show hN h 1416 = 4096 from L.N 1415 rfl]
    exact jI_in (by omega) (by omega) (by omega)
  have v1 : vp_in (hI h 1416 (jI (c : Int)).toNatClampNeg) (hN h 1413) := by
    rw [e0, show hN h 1413 = 40960 from L.N 1412 rfl]
    exact jI_in (by omega) (by omega) (by omega)
  have v2 : vp_in (hI h 1416 (jI (c : Int)).toNatClampNeg) (hN h 1414) := by
    rw [e0, show hN h 1414 = 40960 from L.N 1413 rfl]
    exact jI_in (by omega) (by omega) (by omega)
  have e1 : (hI h 1413 (hI h 1416 (jI (c : Int)).toNatClampNeg).toNatClampNeg).toInt64 = jL (A (nm c)).1 := by rw [e0, nat, b1, jI_L (by omega) (by omega)]
  have e2 : (hI h 1414 (hI h 1416 (jI (c : Int)).toNatClampNeg).toNatClampNeg).toInt64 = jL (A (nm c)).2 := by rw [e0, nat, b2, jI_L (by omega) (by omega)]
  have c194 := ct_194 G L hw hd (x := (A (nm c)).1) (y := (A (nm c)).2) h0 (by omega) (by omega)
  rw [← e1, ← e2] at c194
  refine mj_Ct_of mj_ok tb_205 rfl rfl (Nat.le_of_ble_eq_true rfl) (fun Run hR => ?_)
  refine hR 60 0 _ _ _ _ _ _ rfl ?_
  refine ⟨z, _, L.R 1412 4 _ rfl, z, _, L.R 1412 8 _ rfl, Or.inl (L.K 1416 rfl), v0, Or.inl (L.K 1413 rfl), v1, z, _, L.R 1412 5 _ rfl, z, _, L.R 1412 8 _ rfl, Or.inl (L.K 1416 rfl), v0, Or.inl (L.K 1414 rfl), v2, z, jcallP c194 ?_⟩
  rintro o h3 ⟨rfl, m3, F3⟩
  exact ⟨rfl, m3, F3.mono (fun _ q => q) (fun _ q => by omega) (fun _ q => q)⟩
