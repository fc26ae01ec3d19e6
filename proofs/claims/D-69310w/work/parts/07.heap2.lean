/-! soundness: stores, fields, new cells -/
theorem mj_C.int {G : mj_G} {h : mj_H} {H : Heap} {k : Nat} (hk : hK h k = 1 ∨ hK h k = 3 ∨ hK h k = 4) (h0 : k ≠ 0) (ht : k < hT h) (e : H[mj_ad G k]? = some (arrV (gA G (hK h k)) (hN h k) (fun j => .int (hI h k j)))) : mj_C G h H k :=
  ⟨fun _ => ht, fun _ _ => h0, fun _ => e, fun q => by omega, fun q => by omega, fun q => by omega, fun ci r q _ => by omega, fun ci q => by omega, fun _ cell hcell => by rw [e] at hcell; cases hcell; rfl⟩
theorem mj_C.long {G : mj_G} {h : mj_H} {H : Heap} {k : Nat} (hk : hK h k = 2) (h0 : k ≠ 0) (ht : k < hT h) (e : H[mj_ad G k]? = some (arrV (gA G 2) (hN h k) (fun j => .long (hJ h k j)))) : mj_C G h H k :=
  ⟨fun _ => ht, fun _ _ => h0, fun q => by omega, fun _ => e, fun q => by omega, fun q => by omega, fun ci r q _ => by omega, fun ci q => by omega, fun _ cell hcell => by rw [e] at hcell; cases hcell; rfl⟩
theorem mj_C.refs {G : mj_G} {h : mj_H} {H : Heap} {k : Nat} (hk : hK h k = 5 ∨ hK h k = 6) (h0 : k ≠ 0) (ht : k < hT h) (e : H[mj_ad G k]? = some (arrV (gA G (hK h k)) (hN h k) (fun j => va_rf ((hR h k j).map (mj_ad G))))) : mj_C G h H k :=
  ⟨fun _ => ht, fun _ _ => h0, fun q => by omega, fun q => by omega, fun _ => e, fun q => by omega, fun ci r q _ => by omega, fun ci q => by omega, fun _ cell hcell => by rw [e] at hcell; cases hcell; rfl⟩
theorem mj_cl_len {ci : Nat} {r : vw_C} (h : mj_cl[ci]? = some r) : ci < 22 := (List.getElem?_eq_some_iff.mp h).1
theorem mj_C.obj {G : mj_G} {h : mj_H} {H : Heap} {k ci : Nat} (hk : hK h k = 10 + ci) (hci : ci < 50) (hr0 : ∃ r, mj_cl[ci]? = some r) (h0 : k ≠ 0) (ht : k < hT h) (e : ∀ r, mj_cl[ci]? = some r → t_OB (mj_ad G k) ((gD G).1 ci) r.2.2 ((gD G).2 ci) H (fun j => mj_sh G (mj_fv h k j (mj_tc (r.2.1 j).2.2.1)))) : mj_C G h H k :=
  ⟨fun _ => ht, fun _ _ => h0, fun q => by omega, fun q => by omega, fun q => by omega, fun q => by omega, fun ci' r q hr => by
    have : ci' = ci := by omega
    subst this
    exact e r hr, fun ci' q => by omega, fun _ cell hcell => by
    obtain ⟨r, hr⟩ := hr0
    obtain ⟨cell', q1, q2, q3, -⟩ := e r hr
    rw [q1] at hcell
    cases hcell
    rw [q3]; rfl⟩
theorem mj_C.exc {G : mj_G} {h : mj_H} {H : Heap} {k ci : Nat} (hk : hK h k = 60 + ci) (h0 : k ≠ 0) (ht : k < hT h) (e : ∃ cell : Cell, H[mj_ad G k]? = some cell ∧ cell.cls = (gD G).1 ci ∧ cell.vm = .none) : mj_C G h H k :=
  ⟨fun _ => ht, fun _ _ => h0, fun q => by omega, fun q => by omega, fun q => by omega, fun q => by omega, fun ci' r q hr => by
    have := mj_cl_len hr
    omega, fun ci' q => by
    have : ci' = ci := by omega
    subst this
    exact e, fun _ cell hcell => by
    obtain ⟨cell', q1, q2, q3⟩ := e
    rw [q1] at hcell
    cases hcell
    rw [q3]; rfl⟩
section HP2
variable {p : Program} {l : Launch} {e : Env} {R : Room} {s : State} {m : MethodId} {args : Array Value} {below : List Frame} {meth : Method} {c : Code} {H : Heap} {locs : List Loc} {cells slots : Nat} {Q : State → Prop} {cc : ByteArray} {pc : Nat} {ls : Array Slot} {own : String} {G : mj_G} {h : mj_H} {rest : List Value}
/-- an int is stored -/
theorem mj_stored (hp : mj_P G h H) (hb : gb G ≤ gN G) {a j : Nat} {x : Int32} {H1 : Heap} (ha : hK h a = 1 ∨ hK h a = 3 ∨ hK h a = 4) (e : H1[mj_ad G a]? = some ((arrV (gA G (hK h a)) (hN h a) (fun j => .int (hI h a j))).setSlot j (.int x))) (z : H1.size = H.size) (oq : ∀ q, q ≠ mj_ad G a → H1[q]? = H[q]?) : mj_P G (sI h a j x) H1 := by
  have h0 : a ≠ 0 := (hp.2 a).2.1 (by omega) (by omega)
  have ht : a < hT h := (hp.2 a).1 (by omega)
  refine hp.upd hb h0 (fun k hk => mj_up_ne hk) (fun _ _ => rfl) (fun _ _ => rfl) rfl z oq (mj_C.int ha h0 ht ?_)
  rw [e, arrV_store]
  congr 2
  funext q
  show updV _ j (.int x) q = .int (mj_up h.1 a j x a q)
  rw [mj_up_at]
  by_cases hq : q = j
  · simp [updV, hq]
  · simp [updV, hq]
theorem mj_iast (hx : p.tables.exec = Jvm.exec) (hb : c.code = cc) (hKK : mj_KK G s) (hp : mj_P G h H) {a : Nat} {i x : Int32} (ha : hK h a = 1) (hin : vp_in i (hN h a)) (hd : decode cc pc = .ok (.iastore, 1)) (hlo : ∀ q ∈ locs, gN G < q.base)
    (k : ∀ H1 locs1, mj_P G (sI h a i.toNatClampNeg x) H1 → (∀ q ∈ locs1, gN G < q.base) → W p l e R s m args below meth c H1 locs1 cells slots Q (F0 m (pc + 1) ls rest)) : W p l e R s m args below meth c H locs cells slots Q (F0 m pc ls (.int x :: .int i :: .ref (mj_ad G a) :: rest)) := by
  have h0 : a ≠ 0 := (hp.2 a).2.1 (by omega) (by omega)
  have hc := (hp.2 a).2.2.1 (Or.inl ha)
  refine W.iast hx hb hc (by rw [ha]; exact mj_aty hKK (k := 0) rfl _ _) (fun q => by cases q) (by rw [arrV_size]; exact hin) rfl rfl hd fun H1 e z oq => ?_
  refine k H1 _ (mj_stored hp hKK.2.2.2 (Or.inl ha) e z oq) (fun q hq => ?_)
  rcases List.mem_append.mp hq with h1 | h1
  · exact hlo q h1
  · rw [List.mem_singleton.mp h1, mj_ad_pos G h0]
    show gN G < gN G + a
    omega
theorem mj_sast (hx : p.tables.exec = Jvm.exec) (hb : c.code = cc) (hKK : mj_KK G s) (hp : mj_P G h H) {a : Nat} {i x : Int32} (ha : hK h a = 3) (hin : vp_in i (hN h a)) (hd : decode cc pc = .ok (.sastore, 1)) (hlo : ∀ q ∈ locs, gN G < q.base)
    (k : ∀ H1 locs1, mj_P G (sI h a i.toNatClampNeg x.toInt16.toInt32) H1 → (∀ q ∈ locs1, gN G < q.base) → W p l e R s m args below meth c H1 locs1 cells slots Q (F0 m (pc + 1) ls rest)) : W p l e R s m args below meth c H locs cells slots Q (F0 m pc ls (.int x :: .int i :: .ref (mj_ad G a) :: rest)) := by
  have h0 : a ≠ 0 := (hp.2 a).2.1 (by omega) (by omega)
  have hc := (hp.2 a).2.2.1 (Or.inr (Or.inl ha))
  refine W.sast hx hb hc (by rw [ha]; exact mj_aty hKK (k := 2) rfl _ _) (fun q => by cases q) (by rw [arrV_size]; exact hin) rfl rfl hd fun H1 e z oq => ?_
  refine k H1 _ (mj_stored hp hKK.2.2.2 (Or.inr (Or.inl ha)) e z oq) (fun q hq => ?_)
  rcases List.mem_append.mp hq with h1 | h1
  · exact hlo q h1
  · rw [List.mem_singleton.mp h1, mj_ad_pos G h0]
    show gN G < gN G + a
    omega
theorem mj_nar_z (x : Int32) : narrow .boolean (.int x) = .int (x &&& 1) := by
  first | rfl | simp [narrow]
theorem mj_zast (hx : p.tables.exec = Jvm.exec) (hb : c.code = cc) (hKK : mj_KK G s) (hp : mj_P G h H) {a : Nat} {i x : Int32} (ha : hK h a = 4) (hin : vp_in i (hN h a)) (hd : decode cc pc = .ok (.bastore, 1)) (hlo : ∀ q ∈ locs, gN G < q.base)
    (k : ∀ H1 locs1, mj_P G (sI h a i.toNatClampNeg (x &&& 1)) H1 → (∀ q ∈ locs1, gN G < q.base) → W p l e R s m args below meth c H1 locs1 cells slots Q (F0 m (pc + 1) ls rest)) : W p l e R s m args below meth c H locs cells slots Q (F0 m pc ls (.int x :: .int i :: .ref (mj_ad G a) :: rest)) := by
  have h0 : a ≠ 0 := (hp.2 a).2.1 (by omega) (by omega)
  have hc := (hp.2 a).2.2.1 (Or.inr (Or.inr ha))
  refine W.zast hx hb hc (by rw [ha]; exact mj_aty hKK (k := 3) rfl _ _) (fun q => by cases q) (by rw [arrV_size]; exact hin) rfl rfl hd fun H1 e z oq => ?_
  rw [mj_nar_z] at e
  refine k H1 _ (mj_stored hp hKK.2.2.2 (Or.inr (Or.inr ha)) e z oq) (fun q hq => ?_)
  rcases List.mem_append.mp hq with h1 | h1
  · exact hlo q h1
  · rw [List.mem_singleton.mp h1, mj_ad_pos G h0]
    show gN G < gN G + a
    omega
theorem mj_last (hx : p.tables.exec = Jvm.exec) (hb : c.code = cc) (hKK : mj_KK G s) (hp : mj_P G h H) {a : Nat} {i : Int32} {x : Int64} (ha : hK h a = 2) (hin : vp_in i (hN h a)) (hd : decode cc pc = .ok (.lastore, 1)) (hlo : ∀ q ∈ locs, gN G < q.base)
    (k : ∀ H1 locs1, mj_P G (sJ h a i.toNatClampNeg x) H1 → (∀ q ∈ locs1, gN G < q.base) → W p l e R s m args below meth c H1 locs1 cells slots Q (F0 m (pc + 1) ls rest)) : W p l e R s m args below meth c H locs cells slots Q (F0 m pc ls (.long x :: .int i :: .ref (mj_ad G a) :: rest)) := by
  have h0 : a ≠ 0 := (hp.2 a).2.1 (by omega) (by omega)
  have ht : a < hT h := (hp.2 a).1 (by omega)
  have hc := (hp.2 a).2.2.2.1 ha
  refine W.last hx hb hc (mj_aty hKK (k := 1) rfl _ _) (fun q => by cases q) (by rw [arrV_size]; exact hin) rfl rfl hd fun H1 e z oq => ?_
  refine k H1 _ (hp.upd hKK.2.2.2 h0 (fun _ _ => rfl) (fun k hk => mj_up_ne hk) (fun _ _ => rfl) rfl z oq (mj_C.long ha h0 ht ?_)) (fun q hq => ?_)
  · rw [e, arrV_store]
    congr 2
    funext q
    show updV _ i.toNatClampNeg (.long x) q = .long (mj_up h.2.1 a i.toNatClampNeg x a q)
    rw [mj_up_at]
    by_cases hq : q = i.toNatClampNeg
    · simp [updV, hq]
    · simp [updV, hq]
  · rcases List.mem_append.mp hq with h1 | h1
    · exact hlo q h1
    · rw [List.mem_singleton.mp h1, mj_ad_pos G h0]
      show gN G < gN G + a
      omega
theorem mj_aast (hx : p.tables.exec = Jvm.exec) (hb : c.code = cc) (hKK : mj_KK G s) (hp : mj_P G h H) {a v : Nat} {i : Int32} (ha : (hK h a = 5 ∧ hK h v = 15) ∨ (hK h a = 6 ∧ hK h v = 26)) (hin : vp_in i (hN h a)) (hd : decode cc pc = .ok (.aastore, 1)) (hlo : ∀ q ∈ locs, gN G < q.base)
    (k : ∀ H1 locs1, mj_P G (sR h a i.toNatClampNeg (some v)) H1 → (∀ q ∈ locs1, gN G < q.base) → W p l e R s m args below meth c H1 locs1 cells slots Q (F0 m (pc + 1) ls rest)) : W p l e R s m args below meth c H locs cells slots Q (F0 m pc ls (.ref (mj_ad G v) :: .int i :: .ref (mj_ad G a) :: rest)) := by
  have hlt : i.toNatClampNeg < hN h a := Nat.not_le.mp fun q => hin (Or.inr q)
  have hi0 : ¬ i < 0 := fun q => hin (Or.inl q)
  have h56 : hK h a = 5 ∨ hK h a = 6 := by omega
  have h0 : a ≠ 0 := (hp.2 a).2.1 (by omega) (by omega)
  have ht : a < hT h := (hp.2 a).1 (by omega)
  have hc := (hp.2 a).2.2.2.2.1 h56
  have fin : ∀ H1 : Heap, H1[mj_ad G a]? = some ((arrV (gA G (hK h a)) (hN h a) (fun j => va_rf ((hR h a j).map (mj_ad G)))).setSlot i.toNatClampNeg (.ref (mj_ad G v))) → H1.size = H.size → (∀ q, q ≠ mj_ad G a → H1[q]? = H[q]?) → W p l e R s m args below meth c H1 (locs ++ [⟨mj_ad G a, i.toNatClampNeg⟩]) cells slots Q (F0 m (pc + 1) ls rest) := by
    intro H1 e z oq
    refine k H1 _ (hp.upd hKK.2.2.2 h0 (fun _ _ => rfl) (fun _ _ => rfl) (fun k hk => mj_up_ne hk) rfl z oq (mj_C.refs h56 h0 ht ?_)) (fun q hq => ?_)
    · rw [e, arrV_store]
      congr 2
      funext q
      show updV _ i.toNatClampNeg (.ref (mj_ad G v)) q = va_rf ((mj_up h.2.2.1 a i.toNatClampNeg (some v) a q).map (mj_ad G))
      rw [mj_up_at]
      by_cases hq : q = i.toNatClampNeg
      · simp [updV, hq, va_rf]
      · simp [updV, hq]
    · rcases List.mem_append.mp hq with h1 | h1
      · exact hlo q h1
      · rw [List.mem_singleton.mp h1, mj_ad_pos G h0]
        show gN G < gN G + a
        omega
  have go : ∀ (ci t0 : Nat) (r : vw_C) (cA : ClassId), cA = gA G (hK h a) → hK h v = 10 + ci → mj_cl[ci]? = some r → (mj_tys G)[t0]? = some (cA, .object r.1) → W p l e R s m args below meth c H locs cells slots Q (F0 m pc ls (.ref (mj_ad G v) :: .int i :: .ref (mj_ad G a) :: rest)) := by
    intro ci t0 r cA eA hv hr ht0
    obtain ⟨cellV, g1, g2, g3, -⟩ := (hp.2 v).2.2.2.2.2.2.1 ci r hv hr
    have hcls := (hKK.1.1 ci r hr).2
    obtain ⟨kA, comp, k1, k2, k3, -⟩ := (hKK.1.2 t0 _ ht0).2
    have hcomp : comp = (gD G).1 ci := Option.some.inj (k3.symm.trans hcls.1)
    subst hcomp
    obtain ⟨kC, hkC, -⟩ := hcls.2
    subst eA
    exact W.aast hx hb hc (fun q h => by cases h) (fun h => by cases h) k1 k2 rfl hkC ⟨hi0, by rw [arrV_size]; exact hlt⟩ g1 (fun q h => by rw [g3] at h; cases h) (by rw [g2]; exact hkC) (by rw [g2]; exact va_assign hcls) rfl rfl hd fin
  rcases ha with ⟨h5, hv⟩ | ⟨h6, hv⟩
  · exact go 5 4 _ (gA G 5) (by rw [h5]) hv rfl rfl
  · exact go 16 5 _ (gA G 6) (by rw [h6]) hv rfl rfl
end HP2
