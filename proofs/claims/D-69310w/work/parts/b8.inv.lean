/-! what holds between the operations -/
/-- a cell is the same -/
def sam (h h' : mj_H) (c : Nat) : Prop := h'.1 c = h.1 c ∧ h'.2.1 c = h.2.1 c ∧ h'.2.2.1 c = h.2.2.1 c ∧ h'.2.2.2.1 c = h.2.2.2.1 c
theorem sam.I {h h' : mj_H} {c : Nat} (a : sam h h' c) (k : Nat) : hI h' c k = hI h c k := congrFun a.1 k
theorem sam.J {h h' : mj_H} {c : Nat} (a : sam h h' c) (k : Nat) : hJ h' c k = hJ h c k := congrFun a.2.1 k
theorem sam.R {h h' : mj_H} {c : Nat} (a : sam h h' c) (k : Nat) : hR h' c k = hR h c k := congrFun a.2.2.1 k
theorem sam.K {h h' : mj_H} {c : Nat} (a : sam h h' c) : hK h' c = hK h c := congrArg Prod.fst a.2.2.2
theorem sam.N {h h' : mj_H} {c : Nat} (a : sam h h' c) : hN h' c = hN h c := congrArg Prod.snd a.2.2.2
theorem sam_new {h : mj_H} {kd n c : Nat} (hc : c < hT h) : sam h (hNew h kd n) c := ⟨funext fun k => hNew_I h kd n (by omega) k, funext fun k => hNew_J h kd n (by omega) k, funext fun k => hNew_R h kd n (by omega) k, hNew_kd h kd n (by omega)⟩
theorem sam_F {S T : Nat → Prop} {h h' : mj_H} (f : Fr S T h h') {c : Nat} (h1 : ¬ S c) (h2 : ¬ T c) : sam h h' c := ⟨(f.2.1 c h1).1, (f.2.1 c h1).2, f.2.2 c h2, by rw [f.1]⟩
theorem sam_M {I J S : Nat → Prop} {h h' : mj_H} (f : FrM I J S h h') {c : Nat} (h1 : c ≠ 1412) (h2 : ¬ S c) : sam h h' c := sam_F f.fr (fun z => z.elim h1 h2) (fun z => z)
theorem sam_J {h : mj_H} {a k : Nat} {v : Int64} {c : Nat} (hc : c ≠ a) : sam h (sJ h a k v) c := ⟨rfl, by funext y; show (if c = a ∧ y = k then v else h.2.1 c y) = _; rw [if_neg (fun z => hc z.1)], rfl, rfl⟩
theorem sam.trans {h h' h'' : mj_H} {c : Nat} (a : sam h h' c) (b : sam h' h'' c) : sam h h'' c := ⟨b.1.trans a.1, b.2.1.trans a.2.1, b.2.2.1.trans a.2.2.1, b.2.2.2.trans a.2.2.2⟩
/-- the heap cut to the cells R -/
def cut (R : Nat → Bool) (h : mj_H) : mj_H := (fun c => match R c with | true => h.1 c | false => fun _ => 0, fun c => match R c with | true => h.2.1 c | false => fun _ => 0, fun c => match R c with | true => h.2.2.1 c | false => fun _ => none, fun c => match R c with | true => h.2.2.2.1 c | false => (0, 0), 0)
theorem cut_eq {R : Nat → Bool} {h h' : mj_H} (e : ∀ c, R c = true → sam h h' c) : cut R h' = cut R h := by
  unfold cut
  refine Prod.ext (funext fun c => ?_) (Prod.ext (funext fun c => ?_) (Prod.ext (funext fun c => ?_) (Prod.ext (funext fun c => ?_) rfl)))
  · show (match R c with | true => h'.1 c | false => fun _ => 0) = (match R c with | true => h.1 c | false => fun _ => 0)
    cases g : R c with
    | true => exact (e c g).1
    | false => rfl
  · show (match R c with | true => h'.2.1 c | false => fun _ => 0) = (match R c with | true => h.2.1 c | false => fun _ => 0)
    cases g : R c with
    | true => exact (e c g).2.1
    | false => rfl
  · show (match R c with | true => h'.2.2.1 c | false => fun _ => none) = (match R c with | true => h.2.2.1 c | false => fun _ => none)
    cases g : R c with
    | true => exact (e c g).2.2.1
    | false => rfl
  · show (match R c with | true => h'.2.2.2.1 c | false => (0, 0)) = (match R c with | true => h.2.2.2.1 c | false => (0, 0))
    cases g : R c with
    | true => exact (e c g).2.2.2
    | false => rfl
theorem isW.S {h h' : mj_H} {w : Nat} {v : Int} (a : isW h w v) (e1 : sam h h' w) (e2 : sam h h' (w + 1)) : isW h' w v := by
  obtain ⟨⟨b1, b2, b3, b4, b5⟩, n, a1, a2, a3, a4, a5⟩ := a
  refine ⟨⟨e1.K.trans b1, (e1.R _).trans b2, e2.K.trans b3, e2.N.trans b4, b5⟩, n, a1, (e1.I _).trans a2, (e1.I _).trans a3, ?_, a5⟩
  rw [e2.1]
  exact a4
theorem isW0.S {h h' : mj_H} {w : Nat} (a : isW0 h w) (e1 : sam h h' w) (e2 : sam h h' (w + 1)) : isW0 h' w := ⟨e1.K.trans a.1, (e1.R _).trans a.2.1, e2.K.trans a.2.2.1, e2.N.trans a.2.2.2.1, a.2.2.2.2⟩
theorem mRf.S {h h' : mj_H} {M a b c d : Nat} (m : mRf h M a b c d) (e : ∀ x, inM M x → sam h h' x) : mRf h' M a b c d := by
  obtain ⟨m1, ra, rb, rc, rd, r4, r5, g6, hab, hcd, wa, wb, wc, ws, w9, w11⟩ := m
  have eM := e M (by omega)
  refine ⟨eM.K.trans m1, (eM.R _).trans ra, (eM.R _).trans rb, (eM.R _).trans rc, (eM.R _).trans rd, (eM.R _).trans r4, (eM.R _).trans r5, g6, hab, hcd, wa.S (e _ (by omega)) (e _ (by omega)), wb.S (e _ (by omega)) (e _ (by omega)), wc.S (e _ (by omega)) (e _ (by omega)), ws.S (e _ (by omega)) (e _ (by omega)), w9.S (e _ (by omega)) (e _ (by omega)), w11.S (e _ (by omega)) (e _ (by omega))⟩
theorem isM.S {h h' : mj_H} {M : Nat} {m : mxI} (a : isM h M m) (e : ∀ x, inM M x → sam h h' x) : isM h' M m := by
  obtain ⟨a, b, c, d, q, w1, w2, w3, w4⟩ := a
  have hab := q.2.2.2.2.2.2.2.2.1
  have hcd := q.2.2.2.2.2.2.2.2.2.1
  exact ⟨a, b, c, d, q.S e, w1.S (e _ (by omega)) (e _ (by omega)), w2.S (e _ (by omega)) (e _ (by omega)), w3.S (e _ (by omega)) (e _ (by omega)), w4.S (e _ (by omega)) (e _ (by omega))⟩
theorem isM0.S {h h' : mj_H} {M : Nat} (a : isM0 h M) (e : ∀ x, inM M x → sam h h' x) : isM0 h' M := by
  obtain ⟨a, b, c, d, q⟩ := a
  exact ⟨a, b, c, d, q.S e⟩
theorem isQ.S {h h' : mj_H} {q : Nat} {z : xI} (a : isQ h q z) (e : ∀ x, q ≤ x → x ≤ q + 4 → sam h h' x) : isQ h' q z := by
  obtain ⟨⟨a1, a2, a3, a4, a5⟩, wx, wy⟩ := a
  exact ⟨⟨(e q (by omega) (by omega)).K.trans a1, ((e q (by omega) (by omega)).R _).trans a2, ((e q (by omega) (by omega)).R _).trans a3, a4.S (e _ (by omega) (by omega)) (e _ (by omega) (by omega)), a5.S (e _ (by omega) (by omega)) (e _ (by omega) (by omega))⟩, wx.S (e _ (by omega) (by omega)) (e _ (by omega) (by omega)), wy.S (e _ (by omega) (by omega)) (e _ (by omega) (by omega))⟩
theorem isLay.new {h : mj_H} (L : isLay h) (ht : 1442 ≤ hT h) (kd n : Nat) : isLay (hNew h kd n) := by
  refine ⟨fun a ha => ?_, fun a k q e => ?_⟩
  · have s := sam_new (kd := kd) (n := n) (c := a) (show a < hT h by omega)
    rw [s.K, s.N]
    exact L.1 a ha
  · have ha : a < 1412 := by
      rcases Nat.lt_or_ge a 1412 with z | z
      · exact z
      · exfalso
        have e1 : Nat.blt a 1412 = false := Bool.eq_false_iff.2 (fun y => by rw [Nat.blt_eq] at y; omega)
        unfold lyRc at e
        rw [e1] at e
        cases e
    rw [(sam_new (kd := kd) (n := n) (c := a) (show a < hT h by omega)).R]
    exact L.2 a k q e
theorem isLam.S {h h' : mj_H} (L : isLam h) (e : ∀ c, 1412 ≤ c → c < 1441 → sam h h' c) : isLam h' := ⟨fun a h1 h2 => by rw [(e a h1 h2).K, (e a h1 h2).N]; exact L.1 a h1 h2, fun k q z => by rw [(e 1412 (by decide) (by decide)).R]; exact L.2 k q z⟩
/-- the families that are told by the model -/
def isTw (h : mj_H) (j : Nat) (v : Int) : Prop := hI h 1431 j = jI v.sign ∧ ∀ k, k < 512 → hI h 1432 (512 * j + k) = jI ((v.natAbs : Int) / pB (2 * k))
def isTf (h : mj_H) (nb : Int) (fs : List Fam) : Prop := hI h 1412 34 = jI nb ∧ hI h 1412 35 = jI fs.length ∧ fs.length ≤ 256 ∧ ∀ i t, fs[i]? = some t → hI h 1429 i = jI t.1 ∧ hI h 1430 i = jI t.2.1 ∧ isTw h (2 * i) t.2.2.1 ∧ isTw h (2 * i + 1) t.2.2.2
/-- the families that are told by the house -/
def isCf (h : mj_H) (nb : Int) (fs : List Fam) : Prop := hI h 1 19 = jI nb ∧ hI h 1 18 = jI fs.length ∧ fs.length ≤ 256 ∧ ∀ i t, fs[i]? = some t → hI h 128 i = jI t.1 ∧ hI h 129 i = jI t.2.1 ∧ isQ h (132 + 5 * i) (t.2.2.1, t.2.2.2)
theorem isCf.S {h h' : mj_H} {nb : Int} {fs : List Fam} (a : isCf h nb fs) (e1 : sam h h' 1) (e8 : sam h h' 128) (e9 : sam h h' 129) (eq : ∀ c, 132 ≤ c → c < 1412 → sam h h' c) : isCf h' nb fs := by
  obtain ⟨a1, a2, a3, a4⟩ := a
  refine ⟨(e1.I _).trans a1, (e1.I _).trans a2, a3, fun i t ht => ?_⟩
  obtain ⟨b1, b2, b3⟩ := a4 i t ht
  have hi := lt_of_some ht
  exact ⟨(e8.I _).trans b1, (e9.I _).trans b2, b3.S (fun x h1 h2 => eq x (by omega) (by omega))⟩
section
variable {d w : Int} {n : Nat} {A : Nat → pI} {nxt : Nat → Nat} {cls : Nat → Int} {cnt : Nat} {nm : Nat → Nat}
/-- the house -/
def isCo (T : isTF d w n A nxt cls cnt nm) (ord : Fin cnt → Nat) (st : gS cnt) (ps : List Nat) (t u x6 x7 : Int) (f : Fm) (e c s1 s2 : Nat) (fs : List Fam) (nb : Int) (ts : List Nat) (h : mj_H) : Prop := isHs T ord st ps t u x6 x7 h ∧ isHh h d w t u f e c s1 s2 ∧ isCf h nb fs ∧ (isTc h ts ∧ ts.length ≤ 4096) ∧ isM0 h 114 ∧ ∃ a b, isRt h a b
/-- the cells that the house's state lies in -/
def Rc (c : Nat) : Bool := Nat.beq c 1 || Nat.beq c 7 || (Nat.ble 8 c && Nat.ble c 20) || (Nat.ble 30 c && Nat.ble c 50) || (Nat.ble 52 c && Nat.ble c 53) || (Nat.ble 61 c && Nat.ble c 68) || Nat.beq c 73 || (Nat.ble 97 c && Nat.ble c 111) || (Nat.ble 114 c && Nat.ble c 129) || (Nat.ble 131 c && Nat.blt c 1412)
theorem Rc_of {c : Nat} (h : c = 1 ∨ c = 7 ∨ (8 ≤ c ∧ c ≤ 20) ∨ (30 ≤ c ∧ c ≤ 50) ∨ (52 ≤ c ∧ c ≤ 53) ∨ (61 ≤ c ∧ c ≤ 68) ∨ c = 73 ∨ (97 ≤ c ∧ c ≤ 111) ∨ (114 ≤ c ∧ c ≤ 129) ∨ (131 ≤ c ∧ c < 1412)) : Rc c = true := by
  unfold Rc
  simp only [Bool.or_eq_true, Bool.and_eq_true, Nat.ble_eq, Nat.blt_eq, Nat.beq_eq]
  omega
theorem Rc_is {c : Nat} (h : Rc c = true) : c = 1 ∨ c = 7 ∨ (8 ≤ c ∧ c ≤ 20) ∨ (30 ≤ c ∧ c ≤ 50) ∨ (52 ≤ c ∧ c ≤ 53) ∨ (61 ≤ c ∧ c ≤ 68) ∨ c = 73 ∨ (97 ≤ c ∧ c ≤ 111) ∨ (114 ≤ c ∧ c ≤ 129) ∨ (131 ≤ c ∧ c < 1412) := by
  unfold Rc at h
  simp only [Bool.or_eq_true, Bool.and_eq_true, Nat.ble_eq, Nat.blt_eq, Nat.beq_eq] at h
  omega
theorem isCo.S {T : isTF d w n A nxt cls cnt nm} {ord : Fin cnt → Nat} {st : gS cnt} {ps : List Nat} {t u x6 x7 : Int} {f : Fm} {e c s1 s2 : Nat} {fs : List Fam} {nb : Int} {ts : List Nat} {h h' : mj_H} (a : isCo T ord st ps t u x6 x7 f e c s1 s2 fs nb ts h) (hs : ∀ c, Rc c = true → sam h h' c) : isCo T ord st ps t u x6 x7 f e c s1 s2 fs nb ts h' := by
  obtain ⟨⟨t1, t2, t3, t4, ⟨t5, t6, t7, t8⟩, t9, t10⟩, ⟨⟨f97, f98⟩, m99, ⟨w1, w2, w3, w4⟩, i8, i9, i10⟩, cf, ⟨tc, tcl⟩, m114, ra, rb, rt⟩ := a
  have k := fun (x : Nat) (hx : Rc x = true) => hs x hx
  have q1 : cut Rc h' = cut Rc h := cut_eq hs
  have g1 : isTB (cut Rc h) d w n A cls cnt nm ∧ isGs st (cut Rc h) ∧ isGr T ord (cut Rc h) ∧ isCh (cut Rc h) ps ∧ isFm (cut Rc h) 97 f ∧ isFm (cut Rc h) 98 (itF d w e f) ∧ (hI (cut Rc h) 1 8 = jI c ∧ hI (cut Rc h) 1 9 = jI e ∧ hI (cut Rc h) 1 10 = jI ((s1 : Int) + s2)) ∧ isTc (cut Rc h) ts ∧ isRt (cut Rc h) ra rb := ⟨t1, t2, t3, t4, f97, f98, ⟨i8, i9, i10⟩, tc, rt⟩
  rw [← q1] at g1
  obtain ⟨u1, u2, u3, u4, u5, u6, ⟨u7, u8, u9⟩, u10, u11⟩ := g1
  have W := fun {x : Nat} {v : Int} (a : isW h x v) (e1 : Rc x = true) (e2 : Rc (x + 1) = true) => a.S (k x e1) (k (x + 1) e2)
  exact ⟨⟨u1, u2, u3, u4, ⟨W t5 rfl rfl, W t6 rfl rfl, W t7 rfl rfl, W t8 rfl rfl⟩, t9.S (fun x hx => k x (Rc_of (by omega))), t10.S (fun x hx => k x (Rc_of (by omega)))⟩, ⟨⟨u5, u6⟩, m99.S (fun x hx => k x (Rc_of (by omega))), ⟨W w1 rfl rfl, W w2 rfl rfl, W w3 rfl rfl, W w4 rfl rfl⟩, u7, u8, u9⟩, cf.S (k 1 rfl) (k 128 rfl) (k 129 rfl) (fun x h1 h2 => k x (Rc_of (by omega))), ⟨u10, tcl⟩, m114.S (fun x hx => k x (Rc_of (by omega))), ra, rb, u11⟩
/-- the model -/
def isMo (T : isTF d w n A nxt cls cnt nm) (ord : Fin cnt → Nat) (st : gS cnt) (ps : List Nat) (t u x6 x7 mn : Int) (f : Fm) (m c r wl : Nat) (fs : List Fam) (nb : Int) (ts : List Nat) (h : mj_H) : Prop := (isMT h d w n A cls cnt nm ∧ isMg T ord h ∧ isMs st h ∧ isMp h ps) ∧ (isN h 4 t ∧ isN h 5 u ∧ isN h 6 x6 ∧ isN h 7 x7 ∧ hI h 1412 19 = jI mn) ∧ isHd h d w f m c r wl ∧ isAu h f t u ∧ isTf h nb fs ∧ isTe h ts ∧ isBo h ∧ isOK h
def Rm (c : Nat) : Bool := Nat.ble 1412 c && Nat.blt c 1441
theorem isMo.S {T : isTF d w n A nxt cls cnt nm} {ord : Fin cnt → Nat} {st : gS cnt} {ps : List Nat} {t u x6 x7 mn : Int} {f : Fm} {m c r wl : Nat} {fs : List Fam} {nb : Int} {ts : List Nat} {h h' : mj_H} (a : isMo T ord st ps t u x6 x7 mn f m c r wl fs nb ts h) (hs : ∀ c, Rm c = true → sam h h' c) : isMo T ord st ps t u x6 x7 mn f m c r wl fs nb ts h' := by
  have q1 : cut Rm h' = cut Rm h := cut_eq hs
  have g1 : isMo T ord st ps t u x6 x7 mn f m c r wl fs nb ts (cut Rm h) := a
  rw [← q1] at g1
  exact g1
end
