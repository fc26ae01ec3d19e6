/-! soundness: reads and writes of the heap -/
theorem mj_ad_pos (G : mj_G) {k : Nat} (h : k ≠ 0) : mj_ad G k = gN G + k := by simp [mj_ad, h]
theorem mj_ad_inj {G : mj_G} (hb : gb G ≤ gN G) {x a : Nat} (ha : a ≠ 0) (h : mj_ad G x = mj_ad G a) : x = a := by
  rw [mj_ad_pos G ha] at h
  by_cases hx : x = 0
  · subst hx
    have : gb G = gN G + a := h
    omega
  · rw [mj_ad_pos G hx] at h
    omega
/-- a cell that is neither written nor moved -/
theorem mj_C.kept {G : mj_G} {h h' : mj_H} {H H1 : Heap} {k : Nat} (c : mj_C G h H k) (e1 : h'.1 k = h.1 k) (e2 : h'.2.1 k = h.2.1 k) (e3 : h'.2.2.1 k = h.2.2.1 k) (e4 : h'.2.2.2.1 k = h.2.2.2.1 k) (e5 : hT h ≤ hT h') (e6 : hK h k ≠ 0 → hK h k ≠ 7 → H1[mj_ad G k]? = H[mj_ad G k]?) (e7 : hK h k = 7 → h'.1 0 = h.1 0 ∧ h'.2.2.2.1 0 = h.2.2.2.1 0) (e8 : k ≠ 0 → H1[mj_ad G k]? = H[mj_ad G k]? ∨ H1[mj_ad G k]? = none) : mj_C G h' H1 k := by
  obtain ⟨c1, c2, c3, c4, c5, c6, c7, c8, c9⟩ := c
  have eK : hK h' k = hK h k := congrArg (fun x => x.1) e4
  have eN : hN h' k = hN h k := congrArg (fun x => x.2) e4
  have eI : ∀ j, hI h' k j = hI h k j := fun j => congrFun e1 j
  have eJ : ∀ j, hJ h' k j = hJ h k j := fun j => congrFun e2 j
  have eR : ∀ j, hR h' k j = hR h k j := fun j => congrFun e3 j
  refine ⟨fun q => Nat.lt_of_lt_of_le (c1 (by rw [← eK]; exact q)) e5, fun q r => c2 (by rw [← eK]; exact q) (by rw [← eK]; exact r), fun q => ?_, fun q => ?_, fun q => ?_, fun q => ?_, fun ci r q hr => ?_, fun ci q => ?_, fun q cell hcell => ?_⟩
  · rw [eK] at q
    rw [e6 (by omega) (by omega), c3 q, eK, eN]
    simp only [eI]
  · rw [eK] at q
    rw [e6 (by omega) (by omega), c4 q, eN]
    simp only [eJ]
  · rw [eK] at q
    rw [e6 (by omega) (by omega), c5 q, eK, eN]
    simp only [eR]
  · rw [eK] at q
    obtain ⟨x1, x2, x3⟩ := c6 q
    obtain ⟨y1, y2⟩ := e7 q
    exact ⟨x1, by show (h'.2.2.2.1 0).2 = _; rw [y2]; exact x2, fun j => by show h'.1 0 j = _; rw [y1]; exact x3 j⟩
  · rw [eK] at q
    refine ((c7 ci r q hr).kept (e6 (by omega) (by omega))).to (fun j _ => ?_)
    unfold mj_fv
    rw [eI, eJ, eR]
  · rw [eK] at q
    obtain ⟨cell, x1, x2⟩ := c8 ci q
    exact ⟨cell, by rw [e6 (by omega) (by omega)]; exact x1, x2⟩
  · rcases e8 q with z | z
    · exact c9 q cell (by rw [← z]; exact hcell)
    · rw [z] at hcell; cases hcell
/-- one cell is written -/
theorem mj_P.upd {G : mj_G} {h h' : mj_H} {H H1 : Heap} {a : Nat} (hp : mj_P G h H) (hb : gb G ≤ gN G) (ha : a ≠ 0) (e1 : ∀ k, k ≠ a → h'.1 k = h.1 k) (e2 : ∀ k, k ≠ a → h'.2.1 k = h.2.1 k) (e3 : ∀ k, k ≠ a → h'.2.2.1 k = h.2.2.1 k) (e4 : h'.2.2.2 = h.2.2.2) (z : H1.size = H.size) (oq : ∀ q, q ≠ mj_ad G a → H1[q]? = H[q]?) (hc : mj_C G h' H1 a) : mj_P G h' H1 := by
  have eT : hT h' = hT h := congrArg (fun x => x.2) e4
  refine ⟨⟨by rw [z, eT]; exact hp.1.1, by rw [eT]; exact hp.1.2.1, fun q hq => ?_⟩, fun k => ?_⟩
  · rw [oq q (by rw [mj_ad_pos G ha]; omega)]
    exact hp.1.2.2 q hq
  · by_cases hk : k = a
    · rw [hk]; exact hc
    · exact (hp.2 k).kept (e1 k hk) (e2 k hk) (e3 k hk) (by rw [e4]) (by rw [eT]; exact Nat.le_refl _) (fun _ _ => oq _ (fun z => hk (mj_ad_inj hb ha z))) (fun _ => ⟨e1 0 (Ne.symm ha), by rw [e4]⟩) (fun _ => Or.inl (oq _ (fun z => hk (mj_ad_inj hb ha z))))
theorem mj_up_ne {α : Type} {f : Nat → Nat → α} {a k x : Nat} {v : α} (h : x ≠ a) : mj_up f a k v x = f x := by
  funext y
  simp [mj_up, h]
theorem mj_up_at {α : Type} {f : Nat → Nat → α} {a k y : Nat} {v : α} : mj_up f a k v a y = if y = k then v else f a y := by
  simp [mj_up]
theorem mj_row_ne {α : Type} {f : Nat → Nat → α} {a x : Nat} {g : Nat → α} (h : x ≠ a) : mj_row f a g x = f x := by
  funext y
  simp [mj_row, h]
theorem mj_row_at {α : Type} {f : Nat → Nat → α} {a : Nat} {g : Nat → α} : mj_row f a g a = g := by
  funext y
  simp [mj_row]
section HP
variable {p : Program} {l : Launch} {e : Env} {R : Room} {s : State} {m : MethodId} {args : Array Value} {below : List Frame} {meth : Method} {c : Code} {H : Heap} {locs : List Loc} {cells slots : Nat} {Q : State → Prop} {cc : ByteArray} {pc : Nat} {ls : Array Slot} {own : String} {G : mj_G} {h : mj_H} {rest : List Value}
theorem mj_aty (hKK : mj_KK G s) {k : Nat} {ty : FieldType} {cA : ClassId} (hk : (mj_tys G)[k]? = some (cA, ty)) (n : Nat) (f : Nat → Value) : s.isArrayOf (arrV cA n f) ty := (hKK.1.2 k _ hk).1 n f
theorem mj_iald (hx : p.tables.exec = Jvm.exec) (hb : c.code = cc) (hKK : mj_KK G s) (hp : mj_P G h H) {a : Nat} {i : Int32} (ha : hK h a = 1 ∨ hK h a = 7) (hin : vp_in i (hN h a)) (hd : decode cc pc = .ok (.iaload, 1))
    (k : W p l e R s m args below meth c H locs cells slots Q (F0 m (pc + 1) ls (.int (hI h a i.toNatClampNeg) :: rest))) : W p l e R s m args below meth c H locs cells slots Q (F0 m pc ls (.int i :: .ref (mj_ad G a) :: rest)) := by
  have hlt : i.toNatClampNeg < hN h a := Nat.not_le.mp fun q => hin (Or.inr q)
  rcases ha with ha | ha
  · have hc := (hp.2 a).2.2.1 (Or.inl ha)
    rw [ha] at hc
    exact W.iald (v := .int (hI h a i.toNatClampNeg)) hx hb hc (mj_aty hKK (k := 0) rfl _ _) (fun q => by cases q) (by rw [arrV_size]; exact hin) (by rw [arrV_read _ _ hlt]) rfl rfl hd k
  · obtain ⟨e0, e1, e2⟩ := (hp.2 a).2.2.2.2.2.1 ha
    subst e0
    obtain ⟨scr, h1, h2, h3, h4, h5⟩ := hKK.2.2.1.1
    have hv : H[mj_ad G 0]? = some scr := by
      show H[gb G]? = _
      rw [hp.1.2.2 _ hKK.2.2.2]
      exact h1
    rw [e2] at k
    exact W.iald (v := .int (gx G i.toNatClampNeg)) hx hb hv h2 h3 (by rw [h4, ← e1]; exact hin) (h5 _ (by rw [← e1]; exact hlt)) rfl rfl hd k
theorem mj_sald (hx : p.tables.exec = Jvm.exec) (hb : c.code = cc) (hKK : mj_KK G s) (hp : mj_P G h H) {a : Nat} {i : Int32} (ha : hK h a = 3) (hin : vp_in i (hN h a)) (hd : decode cc pc = .ok (.saload, 1))
    (k : W p l e R s m args below meth c H locs cells slots Q (F0 m (pc + 1) ls (.int (hI h a i.toNatClampNeg) :: rest))) : W p l e R s m args below meth c H locs cells slots Q (F0 m pc ls (.int i :: .ref (mj_ad G a) :: rest)) := by
  have hlt : i.toNatClampNeg < hN h a := Nat.not_le.mp fun q => hin (Or.inr q)
  have hc := (hp.2 a).2.2.1 (Or.inr (Or.inl ha))
  rw [ha] at hc
  exact W.sald (v := .int (hI h a i.toNatClampNeg)) hx hb hc (mj_aty hKK (k := 2) rfl _ _) (fun q => by cases q) (by rw [arrV_size]; exact hin) (by rw [arrV_read _ _ hlt]) rfl rfl hd k
theorem mj_zald (hx : p.tables.exec = Jvm.exec) (hb : c.code = cc) (hKK : mj_KK G s) (hp : mj_P G h H) {a : Nat} {i : Int32} (ha : hK h a = 4) (hin : vp_in i (hN h a)) (hd : decode cc pc = .ok (.baload, 1))
    (k : W p l e R s m args below meth c H locs cells slots Q (F0 m (pc + 1) ls (.int (hI h a i.toNatClampNeg) :: rest))) : W p l e R s m args below meth c H locs cells slots Q (F0 m pc ls (.int i :: .ref (mj_ad G a) :: rest)) := by
  have hlt : i.toNatClampNeg < hN h a := Nat.not_le.mp fun q => hin (Or.inr q)
  have hc := (hp.2 a).2.2.1 (Or.inr (Or.inr ha))
  rw [ha] at hc
  exact W.zald (v := .int (hI h a i.toNatClampNeg)) hx hb hc (mj_aty hKK (k := 3) rfl _ _) (fun q => by cases q) (by rw [arrV_size]; exact hin) (by rw [arrV_read _ _ hlt]) rfl rfl hd k
theorem mj_lald (hx : p.tables.exec = Jvm.exec) (hb : c.code = cc) (hKK : mj_KK G s) (hp : mj_P G h H) {a : Nat} {i : Int32} (ha : hK h a = 2) (hin : vp_in i (hN h a)) (hd : decode cc pc = .ok (.laload, 1))
    (k : W p l e R s m args below meth c H locs cells slots Q (F0 m (pc + 1) ls (.long (hJ h a i.toNatClampNeg) :: rest))) : W p l e R s m args below meth c H locs cells slots Q (F0 m pc ls (.int i :: .ref (mj_ad G a) :: rest)) := by
  have hlt : i.toNatClampNeg < hN h a := Nat.not_le.mp fun q => hin (Or.inr q)
  have hc := (hp.2 a).2.2.2.1 ha
  exact W.lald (v := .long (hJ h a i.toNatClampNeg)) hx hb hc (mj_aty hKK (k := 1) rfl _ _) (fun q => by cases q) (by rw [arrV_size]; exact hin) (by rw [arrV_read _ _ hlt]) rfl rfl hd k
theorem mj_aald (hx : p.tables.exec = Jvm.exec) (hb : c.code = cc) (hKK : mj_KK G s) (hp : mj_P G h H) {a q0 : Nat} {i : Int32} (ha : hK h a = 5 ∨ hK h a = 6) (hin : vp_in i (hN h a)) (hv : hR h a i.toNatClampNeg = some q0) (hd : decode cc pc = .ok (.aaload, 1))
    (k : W p l e R s m args below meth c H locs cells slots Q (F0 m (pc + 1) ls (.ref (mj_ad G q0) :: rest))) : W p l e R s m args below meth c H locs cells slots Q (F0 m pc ls (.int i :: .ref (mj_ad G a) :: rest)) := by
  have hlt : i.toNatClampNeg < hN h a := Nat.not_le.mp fun q => hin (Or.inr q)
  have hc := (hp.2 a).2.2.2.2.1 ha
  rcases ha with ha | ha
  · rw [ha] at hc
    exact W.aald (v := .ref (mj_ad G q0)) (ty := .object "FormHouse$Whole") hx hb hc (mj_aty hKK (k := 4) rfl _ _) rfl (fun q => by cases q) (by rw [arrV_size]; exact hin) (by rw [arrV_read _ _ hlt, hv]; rfl) rfl rfl hd k
  · rw [ha] at hc
    exact W.aald (v := .ref (mj_ad G q0)) (ty := .object "FormHouse$Pair") hx hb hc (mj_aty hKK (k := 5) rfl _ _) rfl (fun q => by cases q) (by rw [arrV_size]; exact hin) (by rw [arrV_read _ _ hlt, hv]; rfl) rfl rfl hd k
theorem mj_alen (hx : p.tables.exec = Jvm.exec) (hb : c.code = cc) (hKK : mj_KK G s) (hp : mj_P G h H) {a : Nat} (ha : 1 ≤ hK h a ∧ hK h a ≤ 7) (hd : decode cc pc = .ok (.arraylength, 1))
    (k : W p l e R s m args below meth c H locs cells slots Q (F0 m (pc + 1) ls (.int (Int32.ofNat (hN h a)) :: rest))) : W p l e R s m args below meth c H locs cells slots Q (F0 m pc ls (.ref (mj_ad G a) :: rest)) := by
  obtain ⟨c1, c2, c3, c4, c5, c6, -⟩ := hp.2 a
  rcases (show hK h a = 1 ∨ hK h a = 2 ∨ hK h a = 3 ∨ hK h a = 4 ∨ hK h a = 5 ∨ hK h a = 6 ∨ hK h a = 7 by omega) with q | q | q | q | q | q | q
  · have hc := c3 (Or.inl q)
    rw [q] at hc
    exact W.alen hx hb hc (mj_aty hKK (k := 0) rfl _ _) (by rw [arrV_size] <;> rfl) rfl rfl hd k
  · have hc := c4 q
    exact W.alen hx hb hc (mj_aty hKK (k := 1) rfl _ _) (by rw [arrV_size] <;> rfl) rfl rfl hd k
  · have hc := c3 (Or.inr (Or.inl q))
    rw [q] at hc
    exact W.alen hx hb hc (mj_aty hKK (k := 2) rfl _ _) (by rw [arrV_size] <;> rfl) rfl rfl hd k
  · have hc := c3 (Or.inr (Or.inr q))
    rw [q] at hc
    exact W.alen hx hb hc (mj_aty hKK (k := 3) rfl _ _) (by rw [arrV_size] <;> rfl) rfl rfl hd k
  · have hc := c5 (Or.inl q)
    rw [q] at hc
    exact W.alen hx hb hc (mj_aty hKK (k := 4) rfl _ _) (by rw [arrV_size] <;> rfl) rfl rfl hd k
  · have hc := c5 (Or.inr q)
    rw [q] at hc
    exact W.alen hx hb hc (mj_aty hKK (k := 5) rfl _ _) (by rw [arrV_size] <;> rfl) rfl rfl hd k
  · obtain ⟨e0, e1, e2⟩ := c6 q
    subst e0
    obtain ⟨scr, h1, h2, h3, h4, h5⟩ := hKK.2.2.1.1
    have hv : H[mj_ad G 0]? = some scr := by
      show H[gb G]? = _
      rw [hp.1.2.2 _ hKK.2.2.2]
      exact h1
    rw [e1] at k
    exact W.alen hx hb hv h2 (by rw [h4] <;> rfl) rfl rfl hd k
end HP
