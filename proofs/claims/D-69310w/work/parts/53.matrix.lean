/-! frames, and matrices -/
/-- ints and longs change only in the cells S, refs only in the cells T -/
def Fr (S T : Nat → Prop) (h h' : mj_H) : Prop := h'.2.2.2 = h.2.2.2 ∧ (∀ a, ¬ S a → h'.1 a = h.1 a ∧ h'.2.1 a = h.2.1 a) ∧ ∀ a, ¬ T a → h'.2.2.1 a = h.2.2.1 a
theorem sR_a (h : mj_H) {a a' : Nat} (ha : a' ≠ a) (k : Nat) (v : Option Nat) : (sR h a k v).2.2.1 a' = h.2.2.1 a' := by
  funext z
  simp [sR, mj_up, ha]
theorem sR_at (h : mj_H) (a k : Nat) (v : Option Nat) : hR (sR h a k v) a k = v := by simp [hR, sR, mj_up]
theorem sR_k (h : mj_H) (a : Nat) {k k' : Nat} (hk : k' ≠ k) (v : Option Nat) : hR (sR h a k v) a k' = hR h a k' := by simp [hR, sR, mj_up, hk]
theorem sR_2 (h : mj_H) (a : Nat) {k k' l : Nat} (h1 : l ≠ k) (h2 : l ≠ k') (v w : Option Nat) : hR (sR (sR h a k v) a k' w) a l = hR h a l := (sR_k _ _ h2 _).trans (sR_k _ _ h1 _)
theorem sR_1 (h : mj_H) (a : Nat) {k k' : Nat} (h1 : k ≠ k') (v w : Option Nat) : hR (sR (sR h a k v) a k' w) a k = v := (sR_k _ _ h1 _).trans (sR_at _ _ _ _)
theorem sJ_a (h : mj_H) {a a' : Nat} (ha : a' ≠ a) (k : Nat) (v : Int64) : (sJ h a k v).2.1 a' = h.2.1 a' := by
  funext z
  simp [sJ, mj_up, ha]
abbrev noT : Nat → Prop := fun _ => False
theorem Fr.refl (S T : Nat → Prop) (h : mj_H) : Fr S T h h := ⟨rfl, fun _ _ => ⟨rfl, rfl⟩, fun _ _ => rfl⟩
theorem Fr.trans {S T : Nat → Prop} {h h' h'' : mj_H} (a : Fr S T h h') (b : Fr S T h' h'') : Fr S T h h'' := ⟨b.1.trans a.1, fun x hx => ⟨(b.2.1 x hx).1.trans (a.2.1 x hx).1, (b.2.1 x hx).2.trans (a.2.1 x hx).2⟩, fun x hx => (b.2.2 x hx).trans (a.2.2 x hx)⟩
theorem Fr.mono {S T S' T' : Nat → Prop} {h h' : mj_H} (a : Fr S T h h') (hs : ∀ x, S x → S' x) (ht : ∀ x, T x → T' x) : Fr S' T' h h' := ⟨a.1, fun x hx => a.2.1 x (fun z => hx (hs x z)), fun x hx => a.2.2 x (fun z => hx (ht x z))⟩
theorem FrI.to {L : List Nat} {S : Nat → Prop} (T : Nat → Prop) {h h' : mj_H} (a : FrI L h h') (hs : ∀ x, x ∈ L → S x) : Fr S T h h' := ⟨by rw [a.1], fun x hx => ⟨a.2 x (fun z => hx (hs x z)), by rw [a.1]⟩, fun x _ => by rw [a.1]⟩
theorem Fr.sR {S T : Nat → Prop} {h h' : mj_H} (a : Fr S T h h') {x : Nat} (hx : T x) (k : Nat) (v : Option Nat) : Fr S T h (sR h' x k v) := by
  refine ⟨a.1, a.2.1, fun y hy => ?_⟩
  rw [← a.2.2 y hy]
  have : y ≠ x := fun e => hy (e ▸ hx)
  exact sR_a _ this _ _
theorem Fr.sI {S T : Nat → Prop} {h h' : mj_H} (a : Fr S T h h') {x : Nat} (hx : S x) (k : Nat) (v : Int32) : Fr S T h (sI h' x k v) := by
  refine ⟨a.1, fun y hy => ⟨?_, (a.2.1 y hy).2⟩, a.2.2⟩
  rw [← (a.2.1 y hy).1]
  have : y ≠ x := fun e => hy (e ▸ hx)
  exact sI_a _ this _ _
theorem Fr.sJ {S T : Nat → Prop} {h h' : mj_H} (a : Fr S T h h') {x : Nat} (hx : S x) (k : Nat) (v : Int64) : Fr S T h (sJ h' x k v) := by
  refine ⟨a.1, fun y hy => ⟨(a.2.1 y hy).1, ?_⟩, a.2.2⟩
  rw [← (a.2.1 y hy).2]
  have : y ≠ x := fun e => hy (e ▸ hx)
  exact sJ_a _ this _ _
theorem Fr.sFm {S T : Nat → Prop} {h h' : mj_H} (a : Fr S T h h') {x : Nat} (hx : S x) (g : Fm) : Fr S T h (sFm h' x g) := ((a.sJ hx _ _).sJ hx _ _).sJ hx _ _
theorem Fr.K {S T : Nat → Prop} {h h' : mj_H} (a : Fr S T h h') (x : Nat) : hK h' x = hK h x := by
  show (h'.2.2.2.1 x).1 = _
  rw [a.1]
theorem Fr.N {S T : Nat → Prop} {h h' : mj_H} (a : Fr S T h h') (x : Nat) : hN h' x = hN h x := by
  show (h'.2.2.2.1 x).2 = _
  rw [a.1]
theorem Fr.T {S T : Nat → Prop} {h h' : mj_H} (a : Fr S T h h') : hT h' = hT h := by
  show h'.2.2.2.2 = _
  rw [a.1]
theorem Fr.R {S T : Nat → Prop} {h h' : mj_H} (a : Fr S T h h') {x : Nat} (hx : ¬ T x) (k : Nat) : hR h' x k = hR h x k := congrFun (a.2.2 x hx) k
theorem Fr.I {S T : Nat → Prop} {h h' : mj_H} (a : Fr S T h h') {x : Nat} (hx : ¬ S x) (k : Nat) : hI h' x k = hI h x k := congrFun (a.2.1 x hx).1 k
theorem Fr.J {S T : Nat → Prop} {h h' : mj_H} (a : Fr S T h h') {x : Nat} (hx : ¬ S x) (k : Nat) : hJ h' x k = hJ h x k := congrFun (a.2.1 x hx).2 k
theorem isW0.F {S T : Nat → Prop} {h h' : mj_H} (f : Fr S T h h') {w : Nat} (a : isW0 h w) (hw : ¬ T w) : isW0 h' w := by
  obtain ⟨a1, a2, a3, a4, a5⟩ := a
  exact ⟨(f.K _).trans a1, (f.R hw _).trans a2, (f.K _).trans a3, (f.N _).trans a4, a5⟩
theorem isW.F {S T : Nat → Prop} {h h' : mj_H} (f : Fr S T h h') {w : Nat} {v : Int} (a : isW h w v) (h1 : ¬ S w) (h2 : ¬ S (w + 1)) (h3 : ¬ T w) : isW h' w v := by
  obtain ⟨a0, n, a1, a2, a3, a4, a5⟩ := a
  exact ⟨a0.F f h3, n, a1, (f.I h1 _).trans a2, (f.I h1 _).trans a3, by rw [(f.2.1 _ h2).1]; exact a4, a5⟩
theorem isRk.F {S T : Nat → Prop} {h h' : mj_H} (f : Fr S T h h') (a : isRk h) (ht : ¬ T 3) : isRk h' := by
  obtain ⟨a1, a2, a3, a4, a5, a6, a7, a8, a9, a10⟩ := a
  exact ⟨(f.K _).trans a1, (f.R ht _).trans a2, (f.K _).trans a3, (f.N _).trans a4, (f.R ht _).trans a5, (f.K _).trans a6, (f.N _).trans a7, (f.R ht _).trans a8, (f.K _).trans a9, (f.N _).trans a10⟩
theorem isFm.F {S T : Nat → Prop} {h h' : mj_H} (f : Fr S T h h') {w : Nat} {g : Fm} (a : isFm h w g) (h1 : ¬ S w) : isFm h' w g := by
  obtain ⟨a1, a2, a3, a4⟩ := a
  exact ⟨(f.K _).trans a1, (f.J h1 _).trans a2, (f.J h1 _).trans a3, (f.J h1 _).trans a4⟩
theorem isRr.F {S T : Nat → Prop} {h h' : mj_H} (f : Fr S T h h') {w : Nat} {d e : Int} (a : isRr h w d e) (h1 : ¬ S w) : isRr h' w d e := by
  obtain ⟨a1, a2, a3⟩ := a
  exact ⟨(f.K _).trans a1, (f.J h1 _).trans a2, (f.J h1 _).trans a3⟩
theorem fK {h h' : mj_H} (e : h'.2 = h.2) (a : Nat) : hK h' a = hK h a := by
  show (h'.2.2.2.1 a).1 = _
  rw [e]
theorem fR {h h' : mj_H} (e : h'.2 = h.2) (a k : Nat) : hR h' a k = hR h a k := by
  show h'.2.2.1 a k = _
  rw [e]
theorem isFm.fr {S : List Nat} {h h' : mj_H} (f : FrI S h h') {w : Nat} {g : Fm} (a : isFm h w g) : isFm h' w g := by
  obtain ⟨a1, a2, a3, a4⟩ := a
  have e : ∀ k, hJ h' w k = hJ h w k := fun k => by
    show h'.2.1 w k = _
    rw [f.1]
  exact ⟨(fK f.1 _).trans a1, (e _).trans a2, (e _).trans a3, (e _).trans a4⟩
/-- the refs of a matrix -/
def mRf (h : mj_H) (M a b c d : Nat) : Prop := hK h M = 14 ∧ hR h M 0 = some a ∧ hR h M 1 = some b ∧ hR h M 2 = some c ∧ hR h M 3 = some d ∧ hR h M 4 = some (M + 9) ∧ hR h M 5 = some (M + 11) ∧ 6 < M ∧ ((a = M + 1 ∧ b = M + 3) ∨ (a = M + 3 ∧ b = M + 1)) ∧ ((c = M + 5 ∧ d = M + 7) ∨ (c = M + 7 ∧ d = M + 5)) ∧ isW0 h a ∧ isW0 h b ∧ isW0 h c ∧ isW0 h d ∧ isW0 h (M + 9) ∧ isW0 h (M + 11)
def isM0 (h : mj_H) (M : Nat) : Prop := ∃ a b c d, mRf h M a b c d
abbrev mxI : Type := Int × Int × Int × Int
def isM (h : mj_H) (M : Nat) (m : mxI) : Prop := ∃ a b c d, mRf h M a b c d ∧ isW h a m.1 ∧ isW h b m.2.1 ∧ isW h c m.2.2.1 ∧ isW h d m.2.2.2
abbrev inM (M a : Nat) : Prop := M ≤ a ∧ a ≤ M + 12
theorem mRf.F {S T : Nat → Prop} {h h' : mj_H} (f : Fr S T h h') {M a b c d : Nat} (m : mRf h M a b c d) (ht : ∀ x, inM M x → ¬ T x) : mRf h' M a b c d := by
  obtain ⟨m1, ra, rb, rc, rd, r4, r5, g6, hab, hcd, wa, wb, wc, ws, w9, w11⟩ := m
  have hM := ht M ⟨by omega, by omega⟩
  exact ⟨(f.K _).trans m1, (f.R hM _).trans ra, (f.R hM _).trans rb, (f.R hM _).trans rc, (f.R hM _).trans rd, (f.R hM _).trans r4, (f.R hM _).trans r5, g6, hab, hcd, wa.F f (ht a ⟨by omega, by omega⟩), wb.F f (ht b ⟨by omega, by omega⟩), wc.F f (ht c ⟨by omega, by omega⟩), ws.F f (ht d ⟨by omega, by omega⟩), w9.F f (ht _ ⟨by omega, by omega⟩), w11.F f (ht _ ⟨by omega, by omega⟩)⟩
theorem isM.F {S T : Nat → Prop} {h h' : mj_H} (f : Fr S T h h') {M : Nat} {m : mxI} (a : isM h M m) (hs : ∀ x, inM M x → ¬ S x) (ht : ∀ x, inM M x → ¬ T x) : isM h' M m := by
  obtain ⟨a, b, c, d, m1, wa, wb, wc, ws⟩ := a
  have m2 := m1
  obtain ⟨-, -, -, -, -, -, -, -, hab, hcd, -⟩ := m2
  exact ⟨a, b, c, d, m1.F f ht, wa.F f (hs _ ⟨by omega, by omega⟩) (hs _ ⟨by omega, by omega⟩) (ht _ ⟨by omega, by omega⟩), wb.F f (hs _ ⟨by omega, by omega⟩) (hs _ ⟨by omega, by omega⟩) (ht _ ⟨by omega, by omega⟩), wc.F f (hs _ ⟨by omega, by omega⟩) (hs _ ⟨by omega, by omega⟩) (ht _ ⟨by omega, by omega⟩), ws.F f (hs _ ⟨by omega, by omega⟩) (hs _ ⟨by omega, by omega⟩) (ht _ ⟨by omega, by omega⟩)⟩
/-- FormHouse$Matrix.beOne()V; cuts at [] -/
def cd_26 : List mj_E := [(0, false, .aload_n 0, 1, 0, 0, 0, 0, 0),
  (1, false, .getfield 10, 3, 4, 0, 2, 0, 0),
  (4, false, .lconst 1, 1, 0, 0, 0, 0, jL 1),
  (5, false, .invokevirtual 31, 3, 21, 1, 5, 0, 0),
  (8, false, .aload_n 0, 1, 0, 0, 0, 0, 0),
  (9, false, .getfield 16, 3, 4, 1, 2, 0, 0),
  (12, false, .lconst 0, 1, 0, 0, 0, 0, jL 0),
  (13, false, .invokevirtual 31, 3, 21, 1, 5, 0, 0),
  (16, false, .aload_n 0, 1, 0, 0, 0, 0, 0),
  (17, false, .getfield 19, 3, 4, 2, 2, 0, 0),
  (20, false, .lconst 0, 1, 0, 0, 0, 0, jL 0),
  (21, false, .invokevirtual 31, 3, 21, 1, 5, 0, 0),
  (24, false, .aload_n 0, 1, 0, 0, 0, 0, 0),
  (25, false, .getfield 22, 3, 4, 3, 2, 0, 0),
  (28, false, .lconst 1, 1, 0, 0, 0, 0, jL 1),
  (29, false, .invokevirtual 31, 3, 21, 1, 5, 0, 0),
  (32, false, .return_, 1, 0, 0, 0, 0, 0)]
def cx_26 : mj_X := (0, [], [])
theorem tb_26 : mj_tab (mj_mt 26) cx_26 cd_26 mj_mh [(0, 0, 0), (1120, 0, 0), (0, 0, 0), (3087, 0, 0), (0, 0, 0), (1124, 0, 0), (0, 0, 0), (3087, 0, 0), (0, 0, 0), (1127, 0, 0), (0, 0, 0), (3087, 0, 0), (0, 0, 0), (1131, 0, 0), (0, 0, 0), (3087, 0, 0), (0, 0, 0)] = true := mj_tab_f (by decide +kernel)
theorem ct_26 (G : mj_G) {h : mj_H} {M : Nat} (hm : isM0 h M) : mj_Ct G (mj_mt 26) 0 0 [.ref M] h (fun o h' => o = .returned none ∧ isM h' M (1, 0, 0, 1) ∧ Fr (inM M) noT h h') := by
  obtain ⟨a, b, c, d, hm⟩ := hm
  have hM := hm
  obtain ⟨m1, ra, rb, rc, rd, r4, r5, g6, hab, hcd, wa, wb, wc, ws, w9, w11⟩ := hm
  refine mj_Ct_of mj_ok tb_26 rfl rfl (Nat.le_of_ble_eq_true rfl) (fun Run hR => ?_)
  refine hR 40 0 _ _ _ _ _ _ rfl ?_
  refine ⟨m1, _, ra, wa.1, jcallP (ct_21 G wa (v := 1) (by decide) (by decide)) ?_⟩
  rintro o h1 ⟨rfl, v1, f1⟩
  have E1 := f1.1
  refine ⟨(fK E1 _).trans m1, _, (fR E1 _ _).trans rb, (wb.fr E1).1, jcallP (ct_21 G (wb.fr E1) (v := 0) (by decide) (by decide)) ?_⟩
  rintro o h2 ⟨rfl, v2, f2⟩
  have E2 := f2.1.trans E1
  refine ⟨(fK E2 _).trans m1, _, (fR E2 _ _).trans rc, (wc.fr E2).1, jcallP (ct_21 G (wc.fr E2) (v := 0) (by decide) (by decide)) ?_⟩
  rintro o h3 ⟨rfl, v3, f3⟩
  have E3 := f3.1.trans E2
  refine ⟨(fK E3 _).trans m1, _, (fR E3 _ _).trans rd, (ws.fr E3).1, jcallP (ct_21 G (ws.fr E3) (v := 1) (by decide) (by decide)) ?_⟩
  rintro o h4 ⟨rfl, v4, f4⟩
  have F1 : Fr (inM M) noT h h1 := f1.to noT (by simp; omega)
  have F2 : Fr (inM M) noT h h2 := F1.trans (f2.to noT (by simp; omega))
  have F3 : Fr (inM M) noT h h3 := F2.trans (f3.to noT (by simp; omega))
  have F4 : Fr (inM M) noT h h4 := F3.trans (f4.to noT (by simp; omega))
  refine ⟨rfl, ⟨a, b, c, d, hM.F F4 (fun _ _ z => z), ?_, ?_, ?_, v4⟩, F4⟩
  · exact ((v1.fr f2 (by simp; omega) (by simp; omega)).fr f3 (by simp; omega) (by simp; omega)).fr f4 (by simp; omega) (by simp; omega)
  · exact (v2.fr f3 (by simp; omega) (by simp; omega)).fr f4 (by simp; omega) (by simp; omega)
  · exact v3.fr f4 (by simp; omega) (by simp; omega)
def stM (k : Int) (m : mxI) : mxI := (m.2.1, m.2.1 * k - m.1, m.2.2.2, m.2.2.2 * k - m.2.2.1)
def bdM (k : Int) (m : mxI) : Prop := (m.2.1 * k).natAbs + m.1.natAbs < 4294967296 ^ 1024 ∧ (m.2.2.2 * k).natAbs + m.2.2.1.natAbs < 4294967296 ^ 1024
abbrev inS (M a : Nat) : Prop := a = 3 ∨ a = 4 ∨ inM M a
/-- FormHouse$Matrix.step(JLFormHouse$Reckoner;)V; cuts at [60] -/
def cl_30_2 : List mj_E := (96, false, .astore 4, 2, 0, 0, 0, 0, 0) ::
  (98, false, .aload_n 0, 1, 0, 0, 0, 0, 0) ::
  (99, false, .aload_n 0, 1, 0, 0, 0, 0, 0) ::
  (100, false, .getfield 22, 3, 4, 3, 2, 0, 0) ::
  (103, false, .putfield 19, 3, 4, 2, 2, 0, 0) ::
  (106, false, .aload_n 0, 1, 0, 0, 0, 0, 0) ::
  (107, false, .aload 4, 2, 0, 0, 0, 0, 0) ::
  (109, false, .putfield 22, 3, 4, 3, 2, 0, 0) ::
  (112, false, .return_, 1, 0, 0, 0, 0, 0) ::
  []
def cl_30_1 : List mj_E := (47, false, .aload_n 0, 1, 0, 0, 0, 0, 0) ::
  (48, false, .getfield 16, 3, 4, 1, 2, 0, 0) ::
  (51, false, .putfield 10, 3, 4, 0, 2, 0, 0) ::
  (54, false, .aload_n 0, 1, 0, 0, 0, 0, 0) ::
  (55, false, .aload 4, 2, 0, 0, 0, 0, 0) ::
  (57, false, .putfield 16, 3, 4, 1, 2, 0, 0) ::
  (60, true, .aload_n 3, 1, 0, 0, 0, 0, 0) ::
  (61, false, .aload_n 0, 1, 0, 0, 0, 0, 0) ::
  (62, false, .getfield 28, 3, 4, 5, 2, 0, 0) ::
  (65, false, .aload_n 0, 1, 0, 0, 0, 0, 0) ::
  (66, false, .getfield 22, 3, 4, 3, 2, 0, 0) ::
  (69, false, .aload_n 0, 1, 0, 0, 0, 0, 0) ::
  (70, false, .getfield 25, 3, 4, 4, 2, 0, 0) ::
  (73, false, .invokevirtual 35, 3, 31, 3, 2, 0, 0) ::
  (76, false, .aload_n 3, 1, 0, 0, 0, 0, 0) ::
  (77, false, .aload_n 0, 1, 0, 0, 0, 0, 0) ::
  (78, false, .getfield 19, 3, 4, 2, 2, 0, 0) ::
  (81, false, .aload_n 0, 1, 0, 0, 0, 0, 0) ::
  (82, false, .getfield 28, 3, 4, 5, 2, 0, 0) ::
  (85, false, .aload_n 0, 1, 0, 0, 0, 0, 0) ::
  (86, false, .getfield 19, 3, 4, 2, 2, 0, 0) ::
  (89, false, .invokevirtual 41, 3, 40, 3, 2, 0, 0) ::
  (92, false, .aload_n 0, 1, 0, 0, 0, 0, 0) ::
  (93, false, .getfield 19, 3, 4, 2, 2, 0, 0) ::
  cl_30_2
def cl_30_0 : List mj_E := (0, false, .aload_n 0, 1, 0, 0, 0, 0, 0) ::
  (1, false, .getfield 25, 3, 4, 4, 2, 0, 0) ::
  (4, false, .lload_n 1, 1, 0, 0, 0, 0, 0) ::
  (5, false, .invokevirtual 31, 3, 21, 1, 5, 0, 0) ::
  (8, false, .aload_n 3, 1, 0, 0, 0, 0, 0) ::
  (9, false, .aload_n 0, 1, 0, 0, 0, 0, 0) ::
  (10, false, .getfield 28, 3, 4, 5, 2, 0, 0) ::
  (13, false, .aload_n 0, 1, 0, 0, 0, 0, 0) ::
  (14, false, .getfield 16, 3, 4, 1, 2, 0, 0) ::
  (17, false, .aload_n 0, 1, 0, 0, 0, 0, 0) ::
  (18, false, .getfield 25, 3, 4, 4, 2, 0, 0) ::
  (21, false, .invokevirtual 35, 3, 31, 3, 2, 0, 0) ::
  (24, false, .aload_n 3, 1, 0, 0, 0, 0, 0) ::
  (25, false, .aload_n 0, 1, 0, 0, 0, 0, 0) ::
  (26, false, .getfield 10, 3, 4, 0, 2, 0, 0) ::
  (29, false, .aload_n 0, 1, 0, 0, 0, 0, 0) ::
  (30, false, .getfield 28, 3, 4, 5, 2, 0, 0) ::
  (33, false, .aload_n 0, 1, 0, 0, 0, 0, 0) ::
  (34, false, .getfield 10, 3, 4, 0, 2, 0, 0) ::
  (37, false, .invokevirtual 41, 3, 40, 3, 2, 0, 0) ::
  (40, false, .aload_n 0, 1, 0, 0, 0, 0, 0) ::
  (41, false, .getfield 10, 3, 4, 0, 2, 0, 0) ::
  (44, false, .astore 4, 2, 0, 0, 0, 0, 0) ::
  (46, false, .aload_n 0, 1, 0, 0, 0, 0, 0) ::
  cl_30_1
def cd_30 : List mj_E := cl_30_0
def cx_30 : mj_X := (0, [], [])
theorem tb_30 : mj_tab (mj_mt 30) cx_30 cd_30 mj_mh [(0, 0, 0), (1135, 0, 0), (0, 0, 0), (3087, 0, 0), (0, 0, 0), (0, 0, 0), (1136, 0, 0), (0, 0, 0), (1124, 0, 0), (0, 0, 0), (1135, 0, 0), (3105, 0, 0), (0, 0, 0), (0, 0, 0), (1120, 0, 0), (0, 0, 0), (1136, 0, 0), (0, 0, 0), (1120, 0, 0), (3189, 0, 0), (0, 0, 0), (1120, 0, 0), (0, 0, 0), (0, 0, 0), (0, 0, 0), (1124, 0, 0), (1120, 0, 0), (0, 0, 0), (0, 0, 0), (1124, 0, 0), (0, 0, 0), (0, 0, 0), (1136, 0, 0), (0, 0, 0), (1131, 0, 0), (0, 0, 0), (1135, 0, 0), (3105, 0, 0), (0, 0, 0), (0, 0, 0), (1127, 0, 0), (0, 0, 0), (1136, 0, 0), (0, 0, 0), (1127, 0, 0), (3189, 0, 0), (0, 0, 0), (1127, 0, 0), (0, 0, 0), (0, 0, 0), (0, 0, 0), (1131, 0, 0), (1127, 0, 0), (0, 0, 0), (0, 0, 0), (1131, 0, 0), (0, 0, 0)] = true := mj_tab_f (by decide +kernel)
theorem ct_30 (G : mj_G) {h : mj_H} {M : Nat} {k : Int} {m : mxI} (hk : isRk h) (hm : isM h M m) (hb : bdM k m) (hk1 : -9223372036854775808 < k) (hk2 : k < 9223372036854775808) : mj_Ct G (mj_mt 30) 0 0 [.ref M, .long (jL k), .ref 3] h (fun o h' => o = .returned none ∧ isM h' M (stM k m) ∧ Fr (inS M) (fun a => a = M) h h') := by
  obtain ⟨a, b, c, d, hM, wa, wb, wc, ws⟩ := hm
  obtain ⟨bd1, bd2⟩ := hb
  have hM0 := hM
  obtain ⟨m1, ra, rb, rc, rd, r4, r5, g6, hab, hcd, wa0, wb0, wc0, ws0, w9, w11⟩ := hM
  refine mj_Ct_of mj_ok tb_30 rfl rfl (Nat.le_of_ble_eq_true rfl) (fun Run hR => ?_)
  have r60 : ∀ (h4 : mj_H) (x4 : Option Value), Fr (inS M) (fun a => a = M) h h4 → mRf h4 M b a c d → isW h4 b m.2.1 → isW h4 a (m.2.1 * k - m.1) → isW h4 c m.2.2.1 → isW h4 d m.2.2.2 → isW h4 (M + 9) k → Run 60 [some (.ref M), some (.long (jL k)), none, some (.ref 3), x4] [] h4 (0, 0) := by
    intro h4 x4 F4 M4 vb va vc vs v9
    have k4 := hk.F F4 (by omega)
    have M40 := M4
    obtain ⟨n1, rb4, ra4, rc4, rd4, r44, r54, -, -, -, wb4, wa4, wc4, ws4, w94, w114⟩ := M4
    refine hR 60 30 _ _ _ _ _ _ rfl ?_
    refine ⟨n1, _, r54, n1, _, rd4, n1, _, r44, k4.1, jcallP (ct_31 G (t := M + 11) (a := d) (b := M + 9) k4 w114 vs v9 (by rw [← Int.natAbs_mul]; omega)) ?_⟩
    rintro o h5 ⟨rfl, v11, f5⟩
    have E5 := f5.1
    have k5 := k4.fr E5
    refine ⟨(fK E5 _).trans n1, _, (fR E5 _ _).trans rc4, (fK E5 _).trans n1, _, (fR E5 _ _).trans r54, (fK E5 _).trans n1, _, (fR E5 _ _).trans rc4, k5.1, jcallP (ct_40 G (t := c) (a := M + 11) (b := c) k5 (wc4.fr E5) v11 (vc.fr f5 (by simp; omega) (by simp; omega)) bd2) ?_⟩
    rintro o h6 ⟨rfl, vc6, f6⟩
    have E6 := f6.1.trans E5
    refine ⟨(fK E6 _).trans n1, _, (fR E6 _ _).trans rc4, (fK E6 _).trans n1, _, (fR E6 _ _).trans rd4, (fK E6 _).trans n1, ?_⟩
    refine ⟨(fK E6 _).trans n1, ?_⟩
    have F6 : Fr (inS M) (fun a => a = M) h h6 := (F4.trans (f5.to _ (by simp; omega))).trans (f6.to _ (by simp; omega))
    have F7 : Fr (inS M) (fun a => a = M) h (sR (sR h6 M 2 (some d)) M 3 (some c)) := (F6.sR rfl _ _).sR rfl _ _
    have F67 : Fr noT (fun a => a = M) h6 (sR (sR h6 M 2 (some d)) M 3 (some c)) := ((Fr.refl noT (fun a => a = M) h6).sR rfl _ _).sR rfl _ _
    have vb6 := (vb.fr f5 (by simp; omega) (by simp; omega)).fr f6 (by simp; omega) (by simp; omega)
    have va6 := (va.fr f5 (by simp; omega) (by simp; omega)).fr f6 (by simp; omega) (by simp; omega)
    have vs6 := (vs.fr f5 (by simp; omega) (by simp; omega)).fr f6 (by simp; omega) (by simp; omega)
    refine ⟨rfl, ⟨b, a, d, c, ?_, ?_, ?_, ?_, ?_⟩, F7⟩
    · refine ⟨(fK E6 _).trans n1, (sR_2 _ _ (by decide) (by decide) _ _).trans ((fR E6 _ _).trans rb4), (sR_2 _ _ (by decide) (by decide) _ _).trans ((fR E6 _ _).trans ra4), sR_1 _ _ (by decide) _ _, sR_at _ _ _ _, (sR_2 _ _ (by decide) (by decide) _ _).trans ((fR E6 _ _).trans r44), (sR_2 _ _ (by decide) (by decide) _ _).trans ((fR E6 _ _).trans r54), g6, by omega, by omega, (wb4.fr E6).F F67 (by omega), (wa4.fr E6).F F67 (by omega), (ws4.fr E6).F F67 (by omega), (wc4.fr E6).F F67 (by omega), (w94.fr E6).F F67 (by omega), (w114.fr E6).F F67 (by omega)⟩
    · exact vb6.F F67 (fun z => z) (fun z => z) (by omega)
    · exact va6.F F67 (fun z => z) (fun z => z) (by omega)
    · exact vs6.F F67 (fun z => z) (fun z => z) (by omega)
    · exact vc6.F F67 (fun z => z) (fun z => z) (by omega)
  refine hR 60 0 _ _ _ _ _ _ rfl ?_
  refine ⟨m1, _, r4, w9.1, jcallP (ct_21 G w9 hk1 hk2) ?_⟩
  rintro o h1 ⟨rfl, v9, f1⟩
  have E1 := f1.1
  have k1 := hk.fr E1
  refine ⟨(fK E1 _).trans m1, _, (fR E1 _ _).trans r5, (fK E1 _).trans m1, _, (fR E1 _ _).trans rb, (fK E1 _).trans m1, _, (fR E1 _ _).trans r4, k1.1, jcallP (ct_31 G (t := M + 11) (a := b) (b := M + 9) k1 (w11.fr E1) (wb.fr f1 (by simp; omega) (by simp; omega)) v9 (by rw [← Int.natAbs_mul]; omega)) ?_⟩
  rintro o h2 ⟨rfl, v11, f2⟩
  have E2 := f2.1.trans E1
  have k2 := hk.fr E2
  have wa2 := (wa.fr f1 (by simp; omega) (by simp; omega)).fr f2 (by simp; omega) (by simp; omega)
  refine ⟨(fK E2 _).trans m1, _, (fR E2 _ _).trans ra, (fK E2 _).trans m1, _, (fR E2 _ _).trans r5, (fK E2 _).trans m1, _, (fR E2 _ _).trans ra, k2.1, jcallP (ct_40 G (t := a) (a := M + 11) (b := a) k2 (wa0.fr E2) v11 wa2 bd1) ?_⟩
  rintro o h3 ⟨rfl, va3, f3⟩
  have E3 := f3.1.trans E2
  refine ⟨(fK E3 _).trans m1, _, (fR E3 _ _).trans ra, (fK E3 _).trans m1, _, (fR E3 _ _).trans rb, (fK E3 _).trans m1, (fK E3 _).trans m1, ?_⟩
  have F3 : Fr (inS M) (fun a => a = M) h h3 := ((f1.to _ (by simp; omega)).trans (f2.to _ (by simp; omega))).trans (f3.to _ (by simp; omega))
  have F4 : Fr (inS M) (fun a => a = M) h (sR (sR h3 M 0 (some b)) M 1 (some a)) := (F3.sR rfl _ _).sR rfl _ _
  have F34 : Fr noT (fun a => a = M) h3 (sR (sR h3 M 0 (some b)) M 1 (some a)) := ((Fr.refl noT (fun a => a = M) h3).sR rfl _ _).sR rfl _ _
  have wb3 := ((wb.fr f1 (by simp; omega) (by simp; omega)).fr f2 (by simp; omega) (by simp; omega)).fr f3 (by simp; omega) (by simp; omega)
  have wc3 := ((wc.fr f1 (by simp; omega) (by simp; omega)).fr f2 (by simp; omega) (by simp; omega)).fr f3 (by simp; omega) (by simp; omega)
  have ws3 := ((ws.fr f1 (by simp; omega) (by simp; omega)).fr f2 (by simp; omega) (by simp; omega)).fr f3 (by simp; omega) (by simp; omega)
  have v93 := (v9.fr f2 (by first | (simp; done) | (simp; omega) | omega) (by first | (simp; done) | (simp; omega) | omega)).fr f3 (by simp; omega) (by simp; omega)
  refine r60 _ _ F4 ?_ ?_ ?_ ?_ ?_ ?_
  · refine ⟨(fK E3 _).trans m1, sR_1 _ _ (by decide) _ _, sR_at _ _ _ _, (sR_2 _ _ (by decide) (by decide) _ _).trans ((fR E3 _ _).trans rc), (sR_2 _ _ (by decide) (by decide) _ _).trans ((fR E3 _ _).trans rd), (sR_2 _ _ (by decide) (by decide) _ _).trans ((fR E3 _ _).trans r4), (sR_2 _ _ (by decide) (by decide) _ _).trans ((fR E3 _ _).trans r5), g6, by omega, by omega, (wb0.fr E3).F F34 (by omega), (wa0.fr E3).F F34 (by omega), (wc0.fr E3).F F34 (by omega), (ws0.fr E3).F F34 (by omega), (w9.fr E3).F F34 (by omega), (w11.fr E3).F F34 (by omega)⟩
  · exact wb3.F F34 (fun z => z) (fun z => z) (by omega)
  · exact va3.F F34 (fun z => z) (fun z => z) (by omega)
  · exact wc3.F F34 (fun z => z) (fun z => z) (by omega)
  · exact ws3.F F34 (fun z => z) (fun z => z) (by omega)
  · exact v93.F F34 (fun z => z) (fun z => z) (by omega)
