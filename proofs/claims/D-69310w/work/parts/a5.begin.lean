/-! the house: the form at hand, and a new discriminant -/
abbrev sLe (a : Nat) : Prop := a = 112 ∨ inS 99 a
abbrev tLe (a : Nat) : Prop := a = 99
/-- FormHouse.lead(LFormHouse$Form;)I; cuts at [] -/
def cd_94 : List mj_E := [(0, false, .aload_n 0, 1, 0, 0, 0, 0, 0),
  (1, false, .getfield 87, 3, 0, 11, 2, 0, 0),
  (4, false, .aload_n 0, 1, 0, 0, 0, 0, 0),
  (5, false, .getfield 91, 3, 0, 12, 2, 0, 0),
  (8, false, .aload_n 1, 1, 0, 0, 0, 0, 0),
  (9, false, .aload_n 0, 1, 0, 0, 0, 0, 0),
  (10, false, .getfield 24, 3, 0, 0, 2, 0, 0),
  (13, false, .getfield 30, 3, 1, 1, 2, 0, 0),
  (16, false, .aload_n 0, 1, 0, 0, 0, 0, 0),
  (17, false, .getfield 24, 3, 0, 0, 2, 0, 0),
  (20, false, .getfield 289, 3, 1, 0, 2, 0, 0),
  (23, false, .invokevirtual 293, 3, 95, 4, 4, 0, 0),
  (26, false, .ireturn, 1, 0, 0, 0, 0, 0)]
def cx_94 : mj_X := (1, [], [])
theorem tb_94 : mj_tab (mj_mt 94) cx_94 cd_94 mj_mh [(0, 0, 0), (4214, 0, 0), (0, 0, 0), (4215, 0, 0), (0, 0, 0), (0, 0, 0), (4203, 0, 0), (1192, 0, 0), (0, 0, 0), (4203, 0, 0), (1190, 0, 0), (4196, 0, 0), (0, 0, 0)] = true := mj_tab_f (by decide +kernel)
theorem ct_94 (G : mj_G) {h : mj_H} (L : isLay h) {t : Nat} (htt : t = 98 ∨ t = 113) {d w : Int} {g to : Fm} {m : mxI} {n : Nat} (hm : isM h 99 m) (hf : isFm h 112 g) (hto : isFm h t to) (hr : isRr h 7 d w) (hd : -1099511627776 < d ∧ d < 1099511627776) (hw : -1 ≤ w ∧ w < 2147483648) (ht : trL d w to n g m) (hn : n < 2147483648) : mj_Ct G (mj_mt 94) 0 0 [.ref 1, .ref t] h (fun o h' => o = .returned (some (.int (jI n))) ∧ isM h' 99 (itM d w n g m) ∧ isFm h' 112 to ∧ Fr sLe tLe h h') := by
  have c := ct_95 G (M := 99) (f := 112) (t := t) (r := 7) L.Rk hm hf hto hr (by omega) hd hw ht hn
  refine mj_Ct_of mj_ok tb_94 rfl rfl (Nat.le_of_ble_eq_true rfl) (fun Run hR => ?_)
  refine hR 60 0 _ _ _ _ _ _ rfl ?_
  exact ⟨L.K 1 rfl, _, L.R 1 11 _ rfl, L.K 1 rfl, _, L.R 1 12 _ rfl, L.K 1 rfl, _, L.R 1 0 _ rfl, L.K 2 rfl, _, L.R 2 1 _ rfl, L.K 1 rfl, _, L.R 1 0 _ rfl, L.K 2 rfl, _, L.R 2 0 _ rfl, L.K 99 rfl, jcallP c (by
    rintro o h' ⟨rfl, p⟩
    exact ⟨rfl, p⟩)⟩
theorem isM0.F {S T : Nat → Prop} {h h' : mj_H} (f : Fr S T h h') {M : Nat} (a : isM0 h M) (ht : ∀ x, inM M x → ¬ T x) : isM0 h' M := by
  obtain ⟨a, b, c, d, m⟩ := a
  exact ⟨a, b, c, d, m.F f ht⟩
theorem isM.z {h : mj_H} {M : Nat} {m : mxI} (a : isM h M m) : isM0 h M := by
  obtain ⟨a, b, c, d, m, -⟩ := a
  exact ⟨a, b, c, d, m⟩
abbrev sSe (a : Nat) : Prop := a = 1 ∨ (3 ≤ a ∧ a ≤ 6) ∨ (23 ≤ a ∧ a ≤ 28) ∨ (34 ≤ a ∧ a ≤ 41) ∨ a = 98 ∨ a = 112 ∨ a = 113 ∨ (99 ≤ a ∧ a ≤ 111)
/-- of the house's own ints only some are changed -/
def own1 (I : Nat → Prop) (h h' : mj_H) : Prop := ∀ k, ¬ I k → hI h' 1 k = hI h 1 k
abbrev iSe (k : Nat) : Prop := k = 8 ∨ k = 9 ∨ k = 10 ∨ k = 18
theorem own1.of {I S T : Nat → Prop} {h h' h'' : mj_H} (a : own1 I h h') (f : Fr S T h' h'') (hs : ¬ S 1) : own1 I h h'' := fun k hk => (f.I hs k).trans (a k hk)
theorem own1.put {I : Nat → Prop} {h h' : mj_H} (a : own1 I h h') {j : Nat} (hj : I j) (v : Int32) : own1 I h (sI h' 1 j v) := fun k hk => (sI_k h' 1 (fun e => hk (by rw [e]; exact hj)) v).trans (a k hk)
theorem own1.trans {I : Nat → Prop} {h h' h'' : mj_H} (a : own1 I h h') (b : own1 I h' h'') : own1 I h h'' := fun k hk => (b k hk).trans (a k hk)
theorem own1.mono {I J : Nat → Prop} {h h' : mj_H} (a : own1 I h h') (hh : ∀ k, I k → J k) : own1 J h h' := fun k hk => a k (fun z => hk (hh k z))
/-- the unit is small enough -/
def seB (t u : Int) (f : Fm) : Prop := t.natAbs + (u * f.2.1).natAbs < 4294967296 ^ 1024 ∧ (u * f.1).natAbs < 4294967296 ^ 1024 ∧ (u * -f.2.2).natAbs < 4294967296 ^ 1024
/-- what is to be known of the form at hand -/
def seP (d w : Int) (n : Nat) (A : Nat → pI) (cls : Nat → Int) (cnt : Nat) (nm : Nat → Nat) (t u : Int) (f : Fm) (e c s1 s2 : Nat) : Prop := ((-4611686018427387904 < f.1 ∧ f.1 < 4611686018427387904) ∧ (-4611686018427387904 < f.2.1 ∧ f.2.1 < 4611686018427387904) ∧ (-4611686018427387904 < f.2.2 ∧ f.2.2 < 4611686018427387904)) ∧ seB t u f ∧ (trm d w e f ∧ e < 2147483648 ∧ okF (itF d w e f) ∧ rdF d w (itF d w e f) = true) ∧ (∃ k, k < n ∧ (itF d w e f).1 = (A k).1 ∧ (itF d w e f).2.1 = (A k).2 ∧ cls k = (c : Nat)) ∧ c < cnt ∧ (trL d w (itF d w e f) s1 f (1, 0, 0, 1) ∧ s1 < 1073741824) ∧ trL d w (nmF d A nm c) s2 (itF d w e f) (itM d w s1 f (1, 0, 0, 1)) ∧ s2 < 1073741824
section
variable {d w : Int} {n : Nat} {A : Nat → pI} {nxt : Nat → Nat} {cls : Nat → Int} {cnt : Nat} {nm : Nat → Nat}
/-- what is told of the form at hand -/
def isHh (h : mj_H) (d w t u : Int) (f : Fm) (e c s1 s2 : Nat) : Prop := (isFm h 97 f ∧ isFm h 98 (itF d w e f)) ∧ isM h 99 (itM d w s2 (itF d w e f) (itM d w s1 f (1, 0, 0, 1))) ∧ (isW h 34 ((t - u * f.2.1).tdiv 2) ∧ isW h 36 (u * -f.2.2) ∧ isW h 38 (u * f.1) ∧ isW h 40 ((t + u * f.2.1).tdiv 2)) ∧ hI h 1 8 = jI c ∧ hI h 1 9 = jI e ∧ hI h 1 10 = jI ((s1 : Int) + s2)
/-- FormHouse.settle()V; cuts at [5, 33, 44, 62, 73, 88, 103, 110, 121, 133] -/
def cl_93_2 : List mj_E := (104, false, .getfield 87, 3, 0, 11, 2, 0, 0) ::
  (107, false, .invokevirtual 283, 3, 26, 0, 4, 0, 0) ::
  (110, true, .aload_n 0, 1, 0, 0, 0, 0, 0) ::
  (111, false, .getfield 91, 3, 0, 12, 2, 0, 0) ::
  (114, false, .aload_n 0, 1, 0, 0, 0, 0, 0) ::
  (115, false, .getfield 77, 3, 0, 6, 2, 0, 0) ::
  (118, false, .invokevirtual 272, 3, 25, 1, 6, 0, 0) ::
  (121, true, .aload_n 0, 1, 0, 0, 0, 0, 0) ::
  (122, false, .aload_n 0, 1, 0, 0, 0, 0, 0) ::
  (123, false, .aload_n 0, 1, 0, 0, 0, 0, 0) ::
  (124, false, .getfield 81, 3, 0, 7, 2, 0, 0) ::
  (127, false, .invokevirtual 286, 3, 94, 1, 0, 0, 0) ::
  (130, false, .putfield 209, 3, 0, 10, 0, 0, 0) ::
  (133, true, .aload_n 0, 1, 0, 0, 0, 0, 0) ::
  (134, false, .dup, 1, 0, 0, 0, 0, 0) ::
  (135, false, .getfield 209, 3, 0, 10, 0, 0, 0) ::
  (138, false, .aload_n 0, 1, 0, 0, 0, 0, 0) ::
  (139, false, .aload_n 0, 1, 0, 0, 0, 0, 0) ::
  (140, false, .getfield 94, 3, 0, 13, 2, 0, 0) ::
  (143, false, .invokevirtual 286, 3, 94, 1, 0, 0, 0) ::
  (146, false, .iadd, 1, 0, 0, 0, 0, 0) ::
  (147, false, .putfield 209, 3, 0, 10, 0, 0, 0) ::
  (150, false, .return_, 1, 0, 0, 0, 0, 0) ::
  []
def cl_93_1 : List mj_E := (52, false, .aload_n 0, 1, 0, 0, 0, 0, 0) ::
  (53, false, .getfield 81, 3, 0, 7, 2, 0, 0) ::
  (56, false, .invokevirtual 276, 3, 76, 1, 3, 0, 0) ::
  (59, false, .putfield 212, 3, 0, 9, 0, 0, 0) ::
  (62, true, .aload_n 0, 1, 0, 0, 0, 0, 0) ::
  (63, false, .getfield 91, 3, 0, 12, 2, 0, 0) ::
  (66, false, .aload_n 0, 1, 0, 0, 0, 0, 0) ::
  (67, false, .getfield 81, 3, 0, 7, 2, 0, 0) ::
  (70, false, .invokevirtual 272, 3, 25, 1, 6, 0, 0) ::
  (73, true, .aload_n 0, 1, 0, 0, 0, 0, 0) ::
  (74, false, .aload_n 0, 1, 0, 0, 0, 0, 0) ::
  (75, false, .getfield 37, 3, 0, 1, 2, 0, 0) ::
  (78, false, .aload_n 0, 1, 0, 0, 0, 0, 0) ::
  (79, false, .getfield 91, 3, 0, 12, 2, 0, 0) ::
  (82, false, .invokevirtual 280, 3, 75, 1, 7, 0, 0) ::
  (85, false, .putfield 206, 3, 0, 8, 0, 0, 0) ::
  (88, true, .aload_n 0, 1, 0, 0, 0, 0, 0) ::
  (89, false, .getfield 37, 3, 0, 1, 2, 0, 0) ::
  (92, false, .aload_n 0, 1, 0, 0, 0, 0, 0) ::
  (93, false, .getfield 206, 3, 0, 8, 0, 0, 0) ::
  (96, false, .aload_n 0, 1, 0, 0, 0, 0, 0) ::
  (97, false, .getfield 94, 3, 0, 13, 2, 0, 0) ::
  (100, false, .invokevirtual 226, 3, 79, 2, 7, 0, 0) ::
  (103, true, .aload_n 0, 1, 0, 0, 0, 0, 0) ::
  cl_93_2
def cl_93_0 : List mj_E := (0, false, .aload_n 0, 1, 0, 0, 0, 0, 0) ::
  (1, false, .iconst 0, 1, 0, 0, 0, jI 0, 0) ::
  (2, false, .putfield 215, 3, 0, 18, 0, 0, 0) ::
  (5, true, .aload_n 0, 1, 0, 0, 0, 0, 0) ::
  (6, false, .getfield 24, 3, 0, 0, 2, 0, 0) ::
  (9, false, .aload_n 0, 1, 0, 0, 0, 0, 0) ::
  (10, false, .getfield 77, 3, 0, 6, 2, 0, 0) ::
  (13, false, .getfield 260, 3, 6, 0, 1, 0, 0) ::
  (16, false, .aload_n 0, 1, 0, 0, 0, 0, 0) ::
  (17, false, .getfield 77, 3, 0, 6, 2, 0, 0) ::
  (20, false, .getfield 263, 3, 6, 1, 1, 0, 0) ::
  (23, false, .aload_n 0, 1, 0, 0, 0, 0, 0) ::
  (24, false, .getfield 77, 3, 0, 6, 2, 0, 0) ::
  (27, false, .getfield 266, 3, 6, 2, 1, 0, 0) ::
  (30, false, .invokevirtual 269, 3, 52, 3, 1, 0, 0) ::
  (33, true, .aload_n 0, 1, 0, 0, 0, 0, 0) ::
  (34, false, .getfield 81, 3, 0, 7, 2, 0, 0) ::
  (37, false, .aload_n 0, 1, 0, 0, 0, 0, 0) ::
  (38, false, .getfield 77, 3, 0, 6, 2, 0, 0) ::
  (41, false, .invokevirtual 272, 3, 25, 1, 6, 0, 0) ::
  (44, true, .aload_n 0, 1, 0, 0, 0, 0, 0) ::
  (45, false, .aload_n 0, 1, 0, 0, 0, 0, 0) ::
  (46, false, .getfield 24, 3, 0, 0, 2, 0, 0) ::
  (49, false, .getfield 30, 3, 1, 1, 2, 0, 0) ::
  cl_93_1
def cd_93 : List mj_E := cl_93_0
def cx_93 : mj_X := (0, [], [])
theorem tb_93 : mj_tab (mj_mt 93) cx_93 cd_93 mj_mh [(0, 0, 0), (0, 0, 0), (4221, 0, 0), (0, 0, 0), (4203, 0, 0), (0, 0, 0), (4209, 0, 0), (1164, 0, 0), (0, 0, 0), (4209, 0, 0), (1173, 0, 0), (0, 0, 0), (4209, 0, 0), (1178, 0, 0), (4186, 0, 0), (0, 0, 0), (4210, 0, 0), (0, 0, 0), (4209, 0, 0), (4187, 0, 0), (0, 0, 0), (0, 0, 0), (4203, 0, 0), (1192, 0, 0), (0, 0, 0), (4210, 0, 0), (4188, 0, 0), (4212, 0, 0), (0, 0, 0), (4215, 0, 0), (0, 0, 0), (4210, 0, 0), (4187, 0, 0), (0, 0, 0), (0, 0, 0), (4204, 0, 0), (0, 0, 0), (4215, 0, 0), (4189, 0, 0), (4211, 0, 0), (0, 0, 0), (4204, 0, 0), (0, 0, 0), (4211, 0, 0), (0, 0, 0), (4216, 0, 0), (4190, 0, 0), (0, 0, 0), (4214, 0, 0), (4191, 0, 0), (0, 0, 0), (4215, 0, 0), (0, 0, 0), (4209, 0, 0), (4187, 0, 0), (0, 0, 0), (0, 0, 0), (0, 0, 0), (4210, 0, 0), (4192, 0, 0), (4213, 0, 0), (0, 0, 0), (0, 0, 0), (4213, 0, 0), (0, 0, 0), (0, 0, 0), (4216, 0, 0), (4192, 0, 0), (0, 0, 0), (4213, 0, 0), (0, 0, 0)] = true := mj_tab_f (by decide +kernel)
theorem ct_93 (G : mj_G) {h : mj_H} (L : isLay h) (T : isTF d w n A nxt cls cnt nm) (hT : isTB h d w n A cls cnt nm) {t u : Int} (h0 : isW h 30 t) (h1 : isW h 32 u) (hm : isM0 h 99) {f : Fm} (hf : isFm h 97 f) {e c s1 s2 : Nat} (hs : seP d w n A cls cnt nm t u f e c s1 s2) : mj_Ct G (mj_mt 93) 0 0 [.ref 1] h (fun o h' => o = .returned none ∧ isHh h' d w t u f e c s1 s2 ∧ hI h' 1 18 = jI 0 ∧ own1 iSe h h' ∧ Fr sSe tLe h h') := by
  obtain ⟨⟨hnsq, hdd, hd, hw, hn, hcnt, hS, hx⟩, hv, hcl, hnm, heq, hred, hring, hall⟩ := id T
  obtain ⟨⟨f1, f2, f3⟩, hbb, ⟨ht, he, hok, hrd⟩, ⟨k, hk, k1, k2, k3⟩, hc, ⟨hl1, hs1⟩, hl2, hs2⟩ := id hs
  obtain ⟨r, hr⟩ : ∃ r, r = itF d w e f := ⟨_, rfl⟩
  rw [← hr] at hok hrd k1 k2 hl1 hl2
  obtain ⟨m1, hm1⟩ : ∃ m1, m1 = itM d w s1 f (1, 0, 0, 1) := ⟨_, rfl⟩
  rw [← hm1] at hl2
  have tb : ∀ {h' : mj_H}, Fr sSe tLe h h' → isTB h' d w n A cls cnt nm := fun F => hT.F F (fun x z => by omega)
  have ly : ∀ {h' : mj_H}, Fr sSe tLe h h' → isLay h' := fun F => L.F F (fun a z => by omega)
  have f97 : ∀ {h' : mj_H}, Fr sSe tLe h h' → isFm h' 97 f := fun F => hf.F F (by omega)
  have up : ∀ {S T : Nat → Prop} {h1 h2 : mj_H}, Fr sSe tLe h h1 → Fr S T h1 h2 → (∀ a, S a → sSe a) → (∀ a, T a → a = 99) → Fr sSe tLe h h2 := fun F F2 h3 h4 => F.trans (F2.mono h3 h4)
  refine mj_Ct_of mj_ok tb_93 rfl rfl (Nat.le_of_ble_eq_true rfl) (fun Run hR => ?_)
  have r133 : ∀ (h' : mj_H), isFm h' 112 r → isFm h' 113 (nmF d A nm c) → isFm h' 98 r → isM h' 99 m1 → (isW h' 34 ((t - u * f.2.1).tdiv 2) ∧ isW h' 36 (u * -f.2.2) ∧ isW h' 38 (u * f.1) ∧ isW h' 40 ((t + u * f.2.1).tdiv 2)) → hI h' 1 8 = jI c → hI h' 1 9 = jI e → hI h' 1 10 = jI s1 → hI h' 1 18 = jI 0 → own1 iSe h h' → Fr sSe tLe h h' → Run 133 [some (.ref 1)] [] h' (0, 0) := by
    intro h' g112 g113 g98 g99 ⟨w1, w2, w3, w4⟩ i8 i9 i10 i18 ow F
    have L' := ly F
    refine hR 60 61 _ _ _ _ _ _ rfl ?_
    refine ⟨L'.K 1 rfl, L'.K 1 rfl, _, L'.R 1 13 _ rfl, L'.K 1 rfl, jcallP (ct_94 G L' (Or.inr rfl) g99 g112 g113 (tb F).2.2 (by omega) hw hl2 (by omega)) ?_⟩
    rintro o h2 ⟨rfl, m2, -, F2⟩
    have Fo := up F F2 (fun a z => by omega) (fun a z => z)
    have L2 := ly Fo
    have F3 : Fr (fun a => a = 1) noT h2 (sI h2 1 10 (hI h' 1 10 + jI s2)) := (Fr.refl (fun a => a = 1) noT h2).sI rfl _ _
    have Fe := up Fo F3 (fun a z => Or.inl z) (fun _ z => z.elim)
    refine ⟨L2.K 1 rfl, rfl, ?_, ?_, ?_, Fe⟩
    · refine ⟨⟨f97 Fe, ?_⟩, ?_, ⟨(w1.F F2 (by omega) (by omega) (by omega)).F F3 (by decide) (by decide) (fun z => z), (w2.F F2 (by omega) (by omega) (by omega)).F F3 (by decide) (by decide) (fun z => z), (w3.F F2 (by omega) (by omega) (by omega)).F F3 (by decide) (by decide) (fun z => z), (w4.F F2 (by omega) (by omega) (by omega)).F F3 (by decide) (by decide) (fun z => z)⟩, (F2.I (by omega) _).trans i8, (F2.I (by omega) _).trans i9, ?_⟩
      · rw [← hr]
        exact (g98.F F2 (by omega)).F F3 (by decide)
      · rw [← hr, ← hm1]
        exact m2.F F3 (by omega) (fun _ _ z => z)
      · refine (sI_at _ _ _ _).trans ?_
        rw [i10, jI_add]
    · exact (F2.I (by omega) _).trans i18
    · exact (ow.of F2 (by omega)).put (by omega) _
  have r121 : ∀ (h' : mj_H), isFm h' 112 f → isFm h' 113 (nmF d A nm c) → isFm h' 98 r → isM h' 99 (1, 0, 0, 1) → (isW h' 34 ((t - u * f.2.1).tdiv 2) ∧ isW h' 36 (u * -f.2.2) ∧ isW h' 38 (u * f.1) ∧ isW h' 40 ((t + u * f.2.1).tdiv 2)) → hI h' 1 8 = jI c → hI h' 1 9 = jI e → hI h' 1 18 = jI 0 → own1 iSe h h' → Fr sSe tLe h h' → Run 121 [some (.ref 1)] [] h' (0, 0) := by
    intro h' g112 g113 g98 g99 ⟨w1, w2, w3, w4⟩ i8 i9 i18 ow F
    have L' := ly F
    refine hR 60 55 _ _ _ _ _ _ rfl ?_
    refine ⟨L'.K 1 rfl, _, L'.R 1 7 _ rfl, L'.K 1 rfl, jcallP (ct_94 G L' (Or.inl rfl) g99 g112 g98 (tb F).2.2 (by omega) hw hl1 (by omega)) ?_⟩
    rintro o h2 ⟨rfl, m2, g2, F2⟩
    rw [← hm1] at m2
    have Fo := up F F2 (fun a z => by omega) (fun a z => z)
    have L2 := ly Fo
    have F3 : Fr (fun a => a = 1) noT h2 (sI h2 1 10 (jI s1)) := (Fr.refl (fun a => a = 1) noT h2).sI rfl _ _
    refine ⟨L2.K 1 rfl, ?_⟩
    refine r133 _ (g2.F F3 (by decide)) ((g113.F F2 (by omega)).F F3 (by decide)) ((g98.F F2 (by omega)).F F3 (by decide)) (m2.F F3 (by omega) (fun _ _ z => z)) ⟨(w1.F F2 (by omega) (by omega) (by omega)).F F3 (by decide) (by decide) (fun z => z), (w2.F F2 (by omega) (by omega) (by omega)).F F3 (by decide) (by decide) (fun z => z), (w3.F F2 (by omega) (by omega) (by omega)).F F3 (by decide) (by decide) (fun z => z), (w4.F F2 (by omega) (by omega) (by omega)).F F3 (by decide) (by decide) (fun z => z)⟩ ((F2.I (by omega) _).trans i8) ((F2.I (by omega) _).trans i9) (sI_at _ _ _ _) ((F2.I (by omega) _).trans i18) ((ow.of F2 (by omega)).put (by omega) _) (Fo.sI (by omega) _ _)
  have r110 : ∀ (h' : mj_H), isFm h' 113 (nmF d A nm c) → isFm h' 98 r → isM h' 99 (1, 0, 0, 1) → (isW h' 34 ((t - u * f.2.1).tdiv 2) ∧ isW h' 36 (u * -f.2.2) ∧ isW h' 38 (u * f.1) ∧ isW h' 40 ((t + u * f.2.1).tdiv 2)) → hI h' 1 8 = jI c → hI h' 1 9 = jI e → hI h' 1 18 = jI 0 → own1 iSe h h' → Fr sSe tLe h h' → Run 110 [some (.ref 1)] [] h' (0, 0) := by
    intro h' g113 g98 g99 ⟨w1, w2, w3, w4⟩ i8 i9 i18 ow F
    have L' := ly F
    have g97 := f97 F
    refine hR 60 50 _ _ _ _ _ _ rfl ?_
    refine ⟨L'.K 1 rfl, _, L'.R 1 12 _ rfl, L'.K 1 rfl, _, L'.R 1 6 _ rfl, L'.K 112 rfl, jcallV (ct_25 G (L'.K 112 rfl) (L'.K 97 rfl)) ?_⟩
    rw [g97.2.1, g97.2.2.1, g97.2.2.2]
    have F3 : Fr (fun a => a = 112) noT h' (sFm h' 112 f) := (Fr.refl (fun a => a = 112) noT h').sFm rfl f
    exact r121 (sFm h' 112 f) (isFm_sFm h' (L'.K 112 rfl) f) (g113.F F3 (by decide)) (g98.F F3 (by decide)) (g99.F F3 (by omega) (fun _ _ z => z)) ⟨w1.F F3 (by decide) (by decide) (fun z => z), w2.F F3 (by decide) (by decide) (fun z => z), w3.F F3 (by decide) (by decide) (fun z => z), w4.F F3 (by decide) (by decide) (fun z => z)⟩ i8 i9 i18 (ow.of F3 (by decide)) (up F F3 (fun a z => by omega) (fun _ z => z.elim))
  have r103 : ∀ (h' : mj_H), isFm h' 113 (nmF d A nm c) → isFm h' 98 r → isM0 h' 99 → (isW h' 34 ((t - u * f.2.1).tdiv 2) ∧ isW h' 36 (u * -f.2.2) ∧ isW h' 38 (u * f.1) ∧ isW h' 40 ((t + u * f.2.1).tdiv 2)) → hI h' 1 8 = jI c → hI h' 1 9 = jI e → hI h' 1 18 = jI 0 → own1 iSe h h' → Fr sSe tLe h h' → Run 103 [some (.ref 1)] [] h' (0, 0) := by
    intro h' g113 g98 g99 ⟨w1, w2, w3, w4⟩ i8 i9 i18 ow F
    have L' := ly F
    refine hR 60 47 _ _ _ _ _ _ rfl ?_
    refine ⟨L'.K 1 rfl, _, L'.R 1 11 _ rfl, L'.K 99 rfl, jcallP (ct_26 G g99) ?_⟩
    rintro o h2 ⟨rfl, m2, F2⟩
    exact r110 h2 (g113.F F2 (by omega)) (g98.F F2 (by omega)) m2 ⟨w1.F F2 (by omega) (by omega) (fun z => z), w2.F F2 (by omega) (by omega) (fun z => z), w3.F F2 (by omega) (by omega) (fun z => z), w4.F F2 (by omega) (by omega) (fun z => z)⟩ ((F2.I (by omega) _).trans i8) ((F2.I (by omega) _).trans i9) ((F2.I (by omega) _).trans i18) (ow.of F2 (by omega)) (up F F2 (fun a z => by omega) (fun _ z => z.elim))
  have r88 : ∀ (h' : mj_H), isFm h' 98 r → isM0 h' 99 → (isW h' 34 ((t - u * f.2.1).tdiv 2) ∧ isW h' 36 (u * -f.2.2) ∧ isW h' 38 (u * f.1) ∧ isW h' 40 ((t + u * f.2.1).tdiv 2)) → hI h' 1 8 = jI c → hI h' 1 9 = jI e → hI h' 1 18 = jI 0 → own1 iSe h h' → Fr sSe tLe h h' → Run 88 [some (.ref 1)] [] h' (0, 0) := by
    intro h' g98 g99 ⟨w1, w2, w3, w4⟩ i8 i9 i18 ow F
    have L' := ly F
    have c79 := ct_79' G L' T (tb F) (c := c) (f := 113) hc (L'.K 113 rfl)
    rw [← i8] at c79
    refine hR 60 40 _ _ _ _ _ _ rfl ?_
    refine ⟨L'.K 1 rfl, _, L'.R 1 1 _ rfl, L'.K 1 rfl, L'.K 1 rfl, _, L'.R 1 13 _ rfl, L'.K 46 rfl, jcallV c79 ?_⟩
    have F3 : Fr (fun a => a = 113) noT h' (sFm h' 113 (nmF d A nm c)) := (Fr.refl (fun a => a = 113) noT h').sFm rfl _
    exact r103 _ (isFm_sFm h' (L'.K 113 rfl) _) (g98.F F3 (by decide)) (g99.F F3 (fun _ _ z => z)) ⟨w1.F F3 (by decide) (by decide) (fun z => z), w2.F F3 (by decide) (by decide) (fun z => z), w3.F F3 (by decide) (by decide) (fun z => z), w4.F F3 (by decide) (by decide) (fun z => z)⟩ i8 i9 i18 (ow.of F3 (by decide)) (up F F3 (fun a z => by omega) (fun _ z => z.elim))
  have r73 : ∀ (h' : mj_H), isFm h' 112 r → isFm h' 98 r → isM0 h' 99 → (isW h' 34 ((t - u * f.2.1).tdiv 2) ∧ isW h' 36 (u * -f.2.2) ∧ isW h' 38 (u * f.1) ∧ isW h' 40 ((t + u * f.2.1).tdiv 2)) → hI h' 1 9 = jI e → hI h' 1 18 = jI 0 → own1 iSe h h' → Fr sSe tLe h h' → Run 73 [some (.ref 1)] [] h' (0, 0) := by
    intro h' g112 g98 g99 ⟨w1, w2, w3, w4⟩ i9 i18 ow F
    have L' := ly F
    have c75 := ct_75 G L' (tb F).1 hS (tb F).2.2 (by omega) hw (tb F).2.1 (f := 112) (m := 0) (k := k) g112 (by decide) ⟨hok, hrd⟩ (by decide) hk k1 k2
    refine hR 60 33 _ _ _ _ _ _ rfl ?_
    refine ⟨L'.K 1 rfl, _, L'.R 1 1 _ rfl, L'.K 1 rfl, _, L'.R 1 12 _ rfl, L'.K 46 rfl, jcallP c75 ?_⟩
    rintro o h2 ⟨rfl, rfl⟩
    have F2 : Fr (fun a => a = 112) noT h' (sFm h' 112 (itF d w 0 r)) := (Fr.refl (fun a => a = 112) noT h').sFm rfl _
    rw [k3]
    generalize sFm h' 112 (itF d w 0 r) = h2 at F2
    have L2 := L'.F F2 (fun _ z => z.elim)
    have F3 : Fr (fun a => a = 1) noT h2 (sI h2 1 8 (jI c)) := (Fr.refl (fun a => a = 1) noT h2).sI rfl _ _
    refine ⟨L2.K 1 rfl, ?_⟩
    exact r88 _ ((g98.F F2 (by decide)).F F3 (by decide)) ((g99.F F2 (fun _ _ z => z)).F F3 (fun _ _ z => z)) ⟨(w1.F F2 (by decide) (by decide) (fun z => z)).F F3 (by decide) (by decide) (fun z => z), (w2.F F2 (by decide) (by decide) (fun z => z)).F F3 (by decide) (by decide) (fun z => z), (w3.F F2 (by decide) (by decide) (fun z => z)).F F3 (by decide) (by decide) (fun z => z), (w4.F F2 (by decide) (by decide) (fun z => z)).F F3 (by decide) (by decide) (fun z => z)⟩ (sI_at _ _ _ _) ((F2.I (by decide) _).trans i9) ((F2.I (by decide) _).trans i18) ((ow.of F2 (by decide)).put (by omega) _) (up (up F F2 (fun a z => by omega) (fun _ z => z.elim)) F3 (fun a z => by omega) (fun _ z => z.elim))
  have r62 : ∀ (h' : mj_H), isFm h' 98 r → isM0 h' 99 → (isW h' 34 ((t - u * f.2.1).tdiv 2) ∧ isW h' 36 (u * -f.2.2) ∧ isW h' 38 (u * f.1) ∧ isW h' 40 ((t + u * f.2.1).tdiv 2)) → hI h' 1 9 = jI e → hI h' 1 18 = jI 0 → own1 iSe h h' → Fr sSe tLe h h' → Run 62 [some (.ref 1)] [] h' (0, 0) := by
    intro h' g98 g99 ⟨w1, w2, w3, w4⟩ i9 i18 ow F
    have L' := ly F
    refine hR 60 28 _ _ _ _ _ _ rfl ?_
    refine ⟨L'.K 1 rfl, _, L'.R 1 12 _ rfl, L'.K 1 rfl, _, L'.R 1 7 _ rfl, L'.K 112 rfl, jcallV (ct_25 G (L'.K 112 rfl) (L'.K 98 rfl)) ?_⟩
    rw [g98.2.1, g98.2.2.1, g98.2.2.2]
    have F3 : Fr (fun a => a = 112) noT h' (sFm h' 112 r) := (Fr.refl (fun a => a = 112) noT h').sFm rfl r
    exact r73 (sFm h' 112 r) (isFm_sFm h' (L'.K 112 rfl) r) (g98.F F3 (by decide)) (g99.F F3 (fun _ _ z => z)) ⟨w1.F F3 (by decide) (by decide) (fun z => z), w2.F F3 (by decide) (by decide) (fun z => z), w3.F F3 (by decide) (by decide) (fun z => z), w4.F F3 (by decide) (by decide) (fun z => z)⟩ i9 i18 (ow.of F3 (by decide)) (up F F3 (fun a z => by omega) (fun _ z => z.elim))
  have r44 : ∀ (h' : mj_H), isFm h' 98 f → isM0 h' 99 → (isW h' 34 ((t - u * f.2.1).tdiv 2) ∧ isW h' 36 (u * -f.2.2) ∧ isW h' 38 (u * f.1) ∧ isW h' 40 ((t + u * f.2.1).tdiv 2)) → hI h' 1 18 = jI 0 → own1 iSe h h' → Fr sSe tLe h h' → Run 44 [some (.ref 1)] [] h' (0, 0) := by
    intro h' g98 g99 ⟨w1, w2, w3, w4⟩ i18 ow F
    have L' := ly F
    have c76 := ct_76 G (r := 7) (f := 98) (tb F).2.2 g98 (by decide) (by omega) hw ht he
    refine hR 60 20 _ _ _ _ _ _ rfl ?_
    refine ⟨L'.K 1 rfl, _, L'.R 1 0 _ rfl, L'.K 2 rfl, _, L'.R 2 1 _ rfl, L'.K 1 rfl, _, L'.R 1 7 _ rfl, L'.K 7 rfl, jcallP c76 ?_⟩
    rintro o h2 ⟨rfl, rfl⟩
    rw [← hr]
    have F2 : Fr (fun a => a = 98) noT h' (sFm h' 98 r) := (Fr.refl (fun a => a = 98) noT h').sFm rfl _
    have g2 := isFm_sFm h' (L'.K 98 rfl) r
    generalize sFm h' 98 r = h2 at F2 g2
    have L2 := L'.F F2 (fun _ z => z.elim)
    have F3 : Fr (fun a => a = 1) noT h2 (sI h2 1 9 (jI e)) := (Fr.refl (fun a => a = 1) noT h2).sI rfl _ _
    refine ⟨L2.K 1 rfl, ?_⟩
    exact r62 _ (g2.F F3 (by decide)) ((g99.F F2 (fun _ _ z => z)).F F3 (fun _ _ z => z)) ⟨(w1.F F2 (by decide) (by decide) (fun z => z)).F F3 (by decide) (by decide) (fun z => z), (w2.F F2 (by decide) (by decide) (fun z => z)).F F3 (by decide) (by decide) (fun z => z), (w3.F F2 (by decide) (by decide) (fun z => z)).F F3 (by decide) (by decide) (fun z => z), (w4.F F2 (by decide) (by decide) (fun z => z)).F F3 (by decide) (by decide) (fun z => z)⟩ (sI_at _ _ _ _) ((F2.I (by decide) _).trans i18) ((ow.of F2 (by decide)).put (by omega) _) (up (up F F2 (fun a z => by omega) (fun _ z => z.elim)) F3 (fun a z => by omega) (fun _ z => z.elim))
  have r33 : ∀ (h' : mj_H), isM0 h' 99 → (isW h' 34 ((t - u * f.2.1).tdiv 2) ∧ isW h' 36 (u * -f.2.2) ∧ isW h' 38 (u * f.1) ∧ isW h' 40 ((t + u * f.2.1).tdiv 2)) → hI h' 1 18 = jI 0 → own1 iSe h h' → Fr sSe tLe h h' → Run 33 [some (.ref 1)] [] h' (0, 0) := by
    intro h' g99 ⟨w1, w2, w3, w4⟩ i18 ow F
    have L' := ly F
    have g97 := f97 F
    refine hR 60 15 _ _ _ _ _ _ rfl ?_
    refine ⟨L'.K 1 rfl, _, L'.R 1 7 _ rfl, L'.K 1 rfl, _, L'.R 1 6 _ rfl, L'.K 98 rfl, jcallV (ct_25 G (L'.K 98 rfl) (L'.K 97 rfl)) ?_⟩
    rw [g97.2.1, g97.2.2.1, g97.2.2.2]
    have F3 : Fr (fun a => a = 98) noT h' (sFm h' 98 f) := (Fr.refl (fun a => a = 98) noT h').sFm rfl f
    exact r44 (sFm h' 98 f) (isFm_sFm h' (L'.K 98 rfl) f) (g99.F F3 (fun _ _ z => z)) ⟨w1.F F3 (by decide) (by decide) (fun z => z), w2.F F3 (by decide) (by decide) (fun z => z), w3.F F3 (by decide) (by decide) (fun z => z), w4.F F3 (by decide) (by decide) (fun z => z)⟩ i18 (ow.of F3 (by decide)) (up F F3 (fun a z => by omega) (fun _ z => z.elim))
  have r5 : ∀ (h' : mj_H), hI h' 1 18 = jI 0 → own1 iSe h h' → Fr (fun a => a = 1) noT h h' → Run 5 [some (.ref 1)] [] h' (0, 0) := by
    intro h' i18 ow F1
    have F := F1.mono (S' := sSe) (T' := tLe) (fun a z => Or.inl z) (fun _ z => z.elim)
    have L' := ly F
    have g97 := f97 F
    have c52 := ct_52 G L' (h0.F F1 (by decide) (by decide) (fun z => z)) (h1.F F1 (by decide) (by decide) (fun z => z)) f1 f2 f3 hbb.1 hbb.2.1 hbb.2.2
    rw [← g97.2.1, ← g97.2.2.1, ← g97.2.2.2] at c52
    refine hR 60 3 _ _ _ _ _ _ rfl ?_
    refine ⟨L'.K 1 rfl, _, L'.R 1 0 _ rfl, L'.K 1 rfl, _, L'.R 1 6 _ rfl, L'.K 97 rfl, L'.K 1 rfl, _, L'.R 1 6 _ rfl, L'.K 97 rfl, L'.K 1 rfl, _, L'.R 1 6 _ rfl, L'.K 97 rfl, L'.K 2 rfl, jcallP c52 ?_⟩
    rintro o h2 ⟨rfl, w1, w2, w3, w4, FI⟩
    have F2 : Fr (fun a => (3 ≤ a ∧ a ≤ 6) ∨ (23 ≤ a ∧ a ≤ 28) ∨ (34 ≤ a ∧ a ≤ 41)) noT h' h2 := FI.to noT (fun x hx => by
      simp only [List.mem_cons, List.not_mem_nil, or_false] at hx
      omega)
    exact r33 h2 ((hm.F F1 (fun _ _ z => z)).F F2 (fun _ _ z => z)) ⟨w1, w2, w3, w4⟩ ((F2.I (by omega) _).trans i18) (ow.of F2 (by omega)) (up F F2 (fun a z => by omega) (fun _ z => z.elim))
  refine hR 60 0 _ _ _ _ _ _ rfl ?_
  exact ⟨L.K 1 rfl, r5 _ (sI_at _ _ _ _) (own1.put (fun _ _ => rfl) (by omega) _) ((Fr.refl (fun a => a = 1) noT h).sI rfl _ _)⟩
end
