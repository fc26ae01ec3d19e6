/-! cells are laid: constructors -/
def spc (a : Nat) : Bool := Nat.beq a 8 || Nat.beq a 99 || Nat.beq a 114 || Nat.beq a 73 || Nat.beq a 127
/-- all refs: those of matrices and of the roots too -/
def lyR2 (a k : Nat) : Option Nat := match spc a with
  | false => lkp (lyAt a).2.2 k
  | true => match Nat.beq a 127, Nat.beq a 73 with
    | true, _ => lyRf 127 k
    | false, true => lkp [(1, 74), (2, 75), (4, 76)] k
    | false, false => match Nat.blt k 6 with
      | true => some (a + 1 + 2 * k)
      | false => none
theorem lkp_mem : ∀ {l : List (Nat × Nat)} {k q : Nat}, lkp l k = some q → (k, q) ∈ l
  | [], _, _, e => by cases e
  | (i, p) :: t, k, q, e => by
    unfold lkp at e
    cases g : Nat.beq i k with
    | true =>
      rw [g] at e
      have h1 := Nat.eq_of_beq_eq_true g
      have h2 : some p = some q := e
      rw [h1, Option.some.inj h2]
      exact List.mem_cons_self ..
    | false =>
      rw [g] at e
      exact List.mem_cons_of_mem _ (lkp_mem e)
/-- the first t cells are laid, and the refs P are set -/
def Cb (zx : (Nat → Int32) × Nat) (t : Nat) (P : Nat → Nat → Prop) (h : mj_H) : Prop := hT h = t ∧ (∀ c, c < t → hK h c = (lyAt c).1 ∧ (c = 0 ∨ hN h c = (lyAt c).2.1)) ∧ (∀ a k q, lyR2 a k = some q → P a k → hR h a k = some q) ∧ 0 < t ∧ h.1 0 = zx.1 ∧ hN h 0 = zx.2
section
variable {zx : (Nat → Int32) × Nat}
theorem hNew_R (h : mj_H) (kd n : Nat) {a : Nat} (ha : a ≠ hT h) (k : Nat) : hR (hNew h kd n) a k = hR h a k := by
  show (if a = hT h then none else h.2.2.1 a k) = _
  rw [if_neg ha]
theorem hNew_I (h : mj_H) (kd n : Nat) {a : Nat} (ha : a ≠ hT h) (k : Nat) : hI (hNew h kd n) a k = hI h a k := by
  show (if a = hT h then 0 else h.1 a k) = _
  rw [if_neg ha]
theorem hNew_J (h : mj_H) (kd n : Nat) {a : Nat} (ha : a ≠ hT h) (k : Nat) : hJ (hNew h kd n) a k = hJ h a k := by
  show (if a = hT h then 0 else h.2.1 a k) = _
  rw [if_neg ha]
theorem hNew_kd (h : mj_H) (kd n : Nat) {a : Nat} (ha : a ≠ hT h) : (hNew h kd n).2.2.2.1 a = h.2.2.2.1 a := by
  show (if a = hT h then (kd, n) else h.2.2.2.1 a) = _
  rw [if_neg ha]
theorem hNew_kt (h : mj_H) (kd n : Nat) : (hNew h kd n).2.2.2.1 (hT h) = (kd, n) := by
  show (if hT h = hT h then (kd, n) else h.2.2.2.1 (hT h)) = _
  rw [if_pos rfl]
theorem Cb.new {t : Nat} {P : Nat → Nat → Prop} {h : mj_H} (c : Cb zx t P h) {kd n : Nat} (hP : ∀ x y, P x y → x < t) (e1 : (lyAt t).1 = kd) (e2 : (lyAt t).2.1 = n) : Cb zx (t + 1) P (hNew h kd n) := by
  obtain ⟨c1, c2, c3, c4, c5, c6⟩ := c
  refine ⟨by show hT h + 1 = _; rw [c1], fun x hx => ?_, fun a k q e p => ?_, by omega, ?_, ?_⟩
  · by_cases z : x = t
    · have e3 : (hNew h kd n).2.2.2.1 x = (kd, n) := by
        rw [z, ← c1]
        exact hNew_kt h kd n
      unfold hK hN
      rw [e3, z]
      exact ⟨e1.symm, Or.inr e2.symm⟩
    · have e3 := hNew_kd h kd n (a := x) (by rw [c1]; exact z)
      unfold hK hN
      rw [e3]
      exact c2 x (by omega)
  · rw [hNew_R h kd n (by rw [c1]; have := hP a k p; omega)]
    exact c3 a k q e p
  · rw [← c5]
    funext y
    exact hNew_I h kd n (by omega) y
  · exact (congrArg Prod.snd (hNew_kd h kd n (a := 0) (by omega))).trans c6
theorem Cb.newL {t : Nat} {P : Nat → Nat → Prop} {h : mj_H} (c : Cb zx t P h) {kd n : Nat} (hP : ∀ x y, P x y → x < t) (e : lyAt t = (kd, n, [])) (hs : spc t = false) : Cb zx (t + 1) (fun x y => P x y ∨ x = t) (hNew h kd n) := by
  obtain ⟨d1, d2, d3, d4⟩ := c.new (kd := kd) (n := n) hP (by rw [e]) (by rw [e])
  refine ⟨d1, d2, fun a k q e2 p => ?_, d4⟩
  rcases p with p | p
  · exact d3 a k q e2 p
  · exfalso
    subst p
    unfold lyR2 at e2
    rw [hs, e] at e2
    cases e2
theorem Cb.ref {t : Nat} {P : Nat → Nat → Prop} {h : mj_H} (c : Cb zx t P h) {a k q v : Nat} (hv : v = q) (e : lyR2 a k = some q) : Cb zx t (fun x y => P x y ∨ (x = a ∧ y = k)) (sR h a k (some v)) := by
  obtain ⟨c1, c2, c3, c4⟩ := c
  refine ⟨c1, c2, fun x y q' e2 p => ?_, c4⟩
  by_cases z : x = a ∧ y = k
  · obtain ⟨z1, z2⟩ := z
    subst z1
    subst z2
    show (if x = x ∧ y = y then some v else _) = _
    rw [if_pos ⟨rfl, rfl⟩, hv, ← e, e2]
  · show (if x = a ∧ y = k then some v else h.2.2.1 x y) = _
    rw [if_neg z]
    rcases p with p | p
    · exact c3 x y q' e2 p
    · exact absurd p z
theorem Cb.mono {t : Nat} {P P' : Nat → Nat → Prop} {h : mj_H} (c : Cb zx t P h) (hP : ∀ a k q, lyR2 a k = some q → P' a k → P a k) : Cb zx t P' h := ⟨c.1, c.2.1, fun a k q e p => c.2.2.1 a k q e (hP a k q e p), c.2.2.2⟩
theorem Cb.sI {t : Nat} {P : Nat → Nat → Prop} {h : mj_H} (c : Cb zx t P h) (a k : Nat) (v : Int32) (ha : a ≠ 0) : Cb zx t P (sI h a k v) := ⟨c.1, c.2.1, c.2.2.1, c.2.2.2.1, by rw [← c.2.2.2.2.1]; funext y; show (if 0 = a ∧ y = k then v else h.1 0 y) = _; rw [if_neg (by omega)], c.2.2.2.2.2⟩
theorem Cb.sJ {t : Nat} {P : Nat → Nat → Prop} {h : mj_H} (c : Cb zx t P h) (a k : Nat) (v : Int64) : Cb zx t P (sJ h a k v) := c
theorem Cb.K {t : Nat} {P : Nat → Nat → Prop} {h : mj_H} (c : Cb zx t P h) (a : Nat) (ha : Nat.blt a t = true) : hK h a = (lyAt a).1 := (c.2.1 a (Nat.le_of_ble_eq_true ha)).1
theorem Cb.R {t : Nat} {P : Nat → Nat → Prop} {h : mj_H} (c : Cb zx t P h) (a k q : Nat) (e : lyR2 a k = some q) (p : P a k) : hR h a k = some q := c.2.2.1 a k q e p
theorem jcallB {G : mj_G} {j : Nat} {av : List Value} {h : mj_H} {bc bs mc ms : Nat} {k : Outcome → mj_H → Nat × Nat → Prop} {Po : mj_H → Prop} (hc : mj_Ct G (mj_mt j) mc ms av h (fun o h' => o = .returned none ∧ Po h')) (h1 : Nat.ble mc bc = true) (h2 : Nat.ble ms bs = true) (hk : ∀ h', Po h' → k (.returned none) h' (bc - mc, bs - ms)) : mj_call G j av h (bc, bs) k :=
  ⟨mc, ms, _, hc, Nat.le_of_ble_eq_true h1, Nat.le_of_ble_eq_true h2, by rintro o h' ⟨rfl, p⟩; exact hk h' p⟩
/-- FormHouse$Reducer.<init>()V; cuts at [] -/
def cd_4 : List mj_E := [(0, false, .aload_n 0, 1, 0, 0, 0, 0, 0),
  (1, false, .invokespecial 1, 3, 0, 0, 1, 0, 0),
  (4, false, .return_, 1, 0, 0, 0, 0, 0)]
def cx_4 : mj_X := (0, [], [])
theorem tb_4 : mj_tab (mj_mt 4) cx_4 cd_4 mj_mh [(0, 0, 0), (1069, 1036, 1037), (0, 0, 0)] = true := mj_tab_f (by decide +kernel)
theorem ct_4 (G : mj_G) (a : Nat) (h : mj_H) : mj_Ct G (mj_mt 4) 0 0 [.ref a] h (jV h) := by
  refine mj_Ct_of mj_ok tb_4 rfl rfl (Nat.le_of_ble_eq_true rfl) (fun Run hR => ?_)
  refine hR 60 0 _ _ _ _ _ _ rfl ?_
  exact ⟨rfl, rfl⟩
/-- FormHouse$Form.<init>()V; cuts at [] -/
def cd_7 : List mj_E := [(0, false, .aload_n 0, 1, 0, 0, 0, 0, 0),
  (1, false, .invokespecial 1, 3, 0, 0, 1, 0, 0),
  (4, false, .return_, 1, 0, 0, 0, 0, 0)]
def cx_7 : mj_X := (0, [], [])
theorem tb_7 : mj_tab (mj_mt 7) cx_7 cd_7 mj_mh [(0, 0, 0), (1155, 1036, 1037), (0, 0, 0)] = true := mj_tab_f (by decide +kernel)
theorem ct_7 (G : mj_G) (a : Nat) (h : mj_H) : mj_Ct G (mj_mt 7) 0 0 [.ref a] h (jV h) := by
  refine mj_Ct_of mj_ok tb_7 rfl rfl (Nat.le_of_ble_eq_true rfl) (fun Run hR => ?_)
  refine hR 60 0 _ _ _ _ _ _ rfl ?_
  exact ⟨rfl, rfl⟩
/-- FormHouse$Common.<init>()V; cuts at [] -/
def cd_10 : List mj_E := [(0, false, .aload_n 0, 1, 0, 0, 0, 0, 0),
  (1, false, .invokespecial 1, 3, 0, 0, 1, 0, 0),
  (4, false, .return_, 1, 0, 0, 0, 0, 0)]
def cx_10 : mj_X := (0, [], [])
theorem tb_10 : mj_tab (mj_mt 10) cx_10 cd_10 mj_mh [(0, 0, 0), (2035, 1036, 1037), (0, 0, 0)] = true := mj_tab_f (by decide +kernel)
theorem ct_10 (G : mj_G) (a : Nat) (h : mj_H) : mj_Ct G (mj_mt 10) 0 0 [.ref a] h (jV h) := by
  refine mj_Ct_of mj_ok tb_10 rfl rfl (Nat.le_of_ble_eq_true rfl) (fun Run hR => ?_)
  refine hR 60 0 _ _ _ _ _ _ rfl ?_
  exact ⟨rfl, rfl⟩
/-- a long number's cells -/
def whP (a : Nat) : Prop := lyAt a = (15, 0, [(0, a + 1)]) ∧ lyAt (a + 1) = (1, 1024, []) ∧ spc a = false ∧ spc (a + 1) = false
/-- FormHouse$Whole.<init>()V; cuts at [] -/
def cd_6 : List mj_E := [(0, false, .aload_n 0, 1, 0, 0, 0, 0, 0),
  (1, false, .invokespecial 3, 3, 0, 0, 1, 0, 0),
  (4, false, .aload_n 0, 1, 0, 0, 0, 0, 0),
  (5, false, .sipush 1024, 3, 0, 0, 0, jI 1024, 0),
  (8, false, .newarray .int, 2, 1, 0, 0, 0, 0),
  (10, false, .putfield 9, 3, 5, 0, 2, 0, 0),
  (13, false, .return_, 1, 0, 0, 0, 0, 0)]
def cx_6 : mj_X := (0, [], [])
theorem tb_6 : mj_tab (mj_mt 6) cx_6 cd_6 mj_mh [(0, 0, 0), (1096, 1036, 1037), (0, 0, 0), (0, 0, 0), (1063, 0, 0), (1097, 0, 0), (0, 0, 0)] = true := mj_tab_f (by decide +kernel)
theorem ct_6 (G : mj_G) {h : mj_H} {a a' : Nat} (ea : a' = a) (w : whP a) {P : Nat → Nat → Prop} (hP : ∀ x y, P x y → x < a) (c : Cb zx (a + 1) P h) : mj_Ct G (mj_mt 6) 1 1024 [.ref a'] h (fun o h' => o = .returned none ∧ Cb zx (a + 2) (fun x y => P x y ∨ (a ≤ x ∧ x < a + 2)) h') := by
  subst ea
  obtain ⟨w1, w2, w3, w4⟩ := w
  have kd : hK h a' = 15 := by
    rw [(c.2.1 a' (by omega)).1, w1]
  have r0 : lyR2 a' 0 = some (a' + 1) := by
    unfold lyR2
    rw [w3, w1]
    rfl
  have rA : ∀ {k q : Nat}, lyR2 a' k = some q → k = 0 := by
    intro k q e
    unfold lyR2 at e
    rw [w3, w1] at e
    have := lkp_mem e
    simp only [List.mem_cons, Prod.mk.injEq, List.not_mem_nil, or_false] at this
    exact this.1
  have n1 := c.newL (kd := 1) (n := (jI 1024).toNatClampNeg) (fun x y p => by have := hP x y p; omega) w2 w4
  have kd1 : hK (hNew h 1 (jI 1024).toNatClampNeg) a' = 15 := by
    rw [(n1.2.1 a' (by omega)).1, w1]
  refine mj_Ct_of mj_ok tb_6 rfl rfl (Nat.le_of_ble_eq_true rfl) (fun Run hR => ?_)
  refine hR 60 0 _ _ _ _ _ _ rfl ?_
  refine ⟨⟨by decide, by decide, Nat.le_refl _, by decide⟩, kd1, rfl, ?_⟩
  have := n1.ref (a := a') (k := 0) (q := a' + 1) (v := hT h) c.1 r0
  refine this.mono (fun x y q e p => ?_)
  rcases p with p | p
  · exact Or.inl (Or.inl p)
  · by_cases z : x = a'
    · subst z
      exact Or.inr ⟨rfl, rA e⟩
    · exact Or.inl (Or.inr (by omega))
/-- a pair's cells -/
def prP (a : Nat) : Prop := lyAt a = (26, 0, [(0, a + 1), (1, a + 3)]) ∧ whP (a + 1) ∧ whP (a + 3) ∧ spc a = false
/-- FormHouse$Pair.<init>()V; cuts at [4, 15] -/
def cd_17 : List mj_E := [(0, false, .aload_n 0, 1, 0, 0, 0, 0, 0),
  (1, false, .invokespecial 1, 3, 0, 0, 1, 0, 0),
  (4, true, .aload_n 0, 1, 0, 0, 0, 0, 0),
  (5, false, .new 7, 3, 15, 3, 0, 0, 0),
  (8, false, .dup, 1, 0, 0, 0, 0, 0),
  (9, false, .invokespecial 9, 3, 6, 0, 0, 0, 0),
  (12, false, .putfield 10, 3, 16, 0, 2, 0, 0),
  (15, true, .aload_n 0, 1, 0, 0, 0, 0, 0),
  (16, false, .new 7, 3, 15, 3, 0, 0, 0),
  (19, false, .dup, 1, 0, 0, 0, 0, 0),
  (20, false, .invokespecial 9, 3, 6, 0, 0, 0, 0),
  (23, false, .putfield 16, 3, 16, 1, 2, 0, 0),
  (26, false, .return_, 1, 0, 0, 0, 0, 0)]
def cx_17 : mj_X := (0, [], [])
theorem tb_17 : mj_tab (mj_mt 17) cx_17 cd_17 mj_mh [(0, 0, 0), (3011, 1036, 1037), (0, 0, 0), (3012, 1092, 1006), (0, 0, 0), (3013, 0, 0), (3014, 0, 0), (0, 0, 0), (3012, 1092, 1006), (0, 0, 0), (3013, 0, 0), (3017, 0, 0), (0, 0, 0)] = true := mj_tab_f (by decide +kernel)
theorem ct_17 (G : mj_G) {h : mj_H} {a a' : Nat} (ea : a' = a) (w : prP a) {P : Nat → Nat → Prop} (hP : ∀ x y, P x y → x < a) (c : Cb zx (a + 1) P h) : mj_Ct G (mj_mt 17) 4 2054 [.ref a'] h (fun o h' => o = .returned none ∧ Cb zx (a + 5) (fun x y => P x y ∨ (a ≤ x ∧ x < a + 5)) h') := by
  subst ea
  obtain ⟨w1, w2, w3, w4⟩ := w
  have kd : ∀ {t : Nat} {Q : Nat → Nat → Prop} {h' : mj_H}, Cb zx t Q h' → a' < t → hK h' a' = 26 := fun c' ht => by rw [(c'.2.1 a' ht).1, w1]
  have r0 : lyR2 a' 0 = some (a' + 1) := by
    unfold lyR2
    rw [w4, w1]
    rfl
  have r1 : lyR2 a' 1 = some (a' + 3) := by
    unfold lyR2
    rw [w4, w1]
    rfl
  have rA : ∀ {k q : Nat}, lyR2 a' k = some q → k = 0 ∨ k = 1 := by
    intro k q e
    unfold lyR2 at e
    rw [w4, w1] at e
    have := lkp_mem e
    simp only [List.mem_cons, Prod.mk.injEq, List.not_mem_nil, or_false] at this
    omega
  refine mj_Ct_of mj_ok tb_17 rfl rfl (Nat.le_of_ble_eq_true rfl) (fun Run hR => ?_)
  have r15 : ∀ (h' : mj_H), Cb zx (a' + 3) (fun x y => P x y ∨ (a' + 1 ≤ x ∧ x < a' + 3) ∨ (x = a' ∧ y = 0)) h' → Run 15 [some (.ref a')] [] h' (2, 1027) := by
    intro h' c'
    have hP' : ∀ x y, (P x y ∨ (a' + 1 ≤ x ∧ x < a' + 3) ∨ (x = a' ∧ y = 0)) → x < a' + 3 := by
      rintro x y (p | p | p)
      · have := hP x y p
        omega
      · omega
      · omega
    have c1 := c'.new (kd := 15) (n := 0) hP' (by rw [w3.1]) (by rw [w3.1])
    refine hR 60 7 _ _ _ _ _ _ rfl ?_
    refine ⟨⟨by decide, by decide⟩, jcallB (ct_6 G c'.1 w3 hP' c1) rfl rfl ?_⟩
    intro h2 c2
    refine ⟨kd c2 (by omega), rfl, ?_⟩
    refine (c2.ref (a := a') (k := 1) c'.1 r1).mono (fun x y q e p => ?_)
    rcases p with p | p
    · exact Or.inl (Or.inl (Or.inl p))
    · by_cases z : x = a'
      · subst z
        rcases rA e with y0 | y0
        · exact Or.inl (Or.inl (Or.inr (Or.inr ⟨rfl, y0⟩)))
        · exact Or.inr ⟨rfl, y0⟩
      · by_cases z2 : x < a' + 3
        · exact Or.inl (Or.inl (Or.inr (Or.inl (by omega))))
        · exact Or.inl (Or.inr (by omega))
  have r4 : ∀ (h' : mj_H), Cb zx (a' + 1) P h' → Run 4 [some (.ref a')] [] h' (4, 2054) := by
    intro h' c'
    have hP' : ∀ x y, P x y → x < a' + 1 := by
      intro x y p
      have := hP x y p
      omega
    have c1 := c'.new (kd := 15) (n := 0) hP' (by rw [w2.1]) (by rw [w2.1])
    refine hR 60 2 _ _ _ _ _ _ rfl ?_
    refine ⟨⟨by decide, by decide⟩, jcallB (ct_6 G c'.1 w2 hP' c1) rfl rfl ?_⟩
    intro h2 c2
    refine ⟨kd c2 (by omega), r15 _ ?_⟩
    refine (c2.ref (a := a') (k := 0) c'.1 r0).mono (fun x y q e p => ?_)
    rcases p with p | p | p
    · exact Or.inl (Or.inl p)
    · exact Or.inl (Or.inr (by omega))
    · exact Or.inr p
  refine hR 60 0 _ _ _ _ _ _ rfl ?_
  exact r4 h c
end
