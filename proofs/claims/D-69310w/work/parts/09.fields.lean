/-! soundness: fields, new objects and arrays, arraycopy -/
/-- a field link of the constant pool: the class number, the field's place -/
def mj_okf (own : String) (idx ci k : Nat) (C : String) (T : u_T) (N : Nat) : Prop := mj_cl[ci]? = some (C, T, N) ∧ k < N ∧ (T k).1 = C ∧ (Cond.fieldLink own idx C (T k).2.1 (T k).2.2.1 ∈ lw_tbl ∨ ∃ x, Cond.fieldLinkNest own idx C (T k).2.1 (T k).2.2.1 x ∈ lw_tbl)
theorem mj_lay_good (C : String) (T : u_T) (N : Nat) : ∀ w ∈ u_ws C T N, mj_good w = true := by
  intro w hw
  obtain ⟨k, -, rfl⟩ := List.mem_map.mp hw
  unfold u_lay
  split <;> rfl
section HP3
variable {p : Program} {l : Launch} {e : Env} {R : Room} {s : State} {m : MethodId} {args : Array Value} {below : List Frame} {meth : Method} {c : Code} {H : Heap} {locs : List Loc} {cells slots : Nat} {Q : State → Prop} {cc : ByteArray} {pc : Nat} {ls : Array Slot} {own : String} {G : mj_G} {h : mj_H} {rest : List Value}
theorem mj_getf (hx : p.tables.exec = Jvm.exec) (hb : c.code = cc) (hown : s.vm.findClass own = some m.cls) (hKK : mj_KK G s) (hp : mj_P G h H) {a idx ci k : Nat} {C : String} {T : u_T} {N : Nat} (hf : mj_okf own idx ci k C T N) (ha : hK h a = 10 + ci) (hd : decode cc pc = .ok (.getfield idx, 3))
    (kk : W p l e R s m args below meth c H locs cells slots Q (F0 m (pc + 3) ls (mj_sh G (mj_fv h a k (mj_tc (T k).2.2.1)) :: rest))) : W p l e R s m args below meth c H locs cells slots Q (F0 m pc ls (.ref (mj_ad G a) :: rest)) := by
  obtain ⟨hc, hk, hC, hl⟩ := hf
  obtain ⟨cell, q1, q2, q3, q4⟩ := (hp.2 a).2.2.2.2.2.2.1 ci _ ha hc
  obtain ⟨hS, hfc, kC, hkC, hkind⟩ := hKK.1.1 ci _ hc
  obtain ⟨cf, kf, fi, f, hi, hsl⟩ := hS k hk
  have hin := (mj_cls hc).1
  have hts : ∀ w ∈ u_ws C T N, w.before args s = true := fun w hw => hKK.2.1.use (hin w hw) (mj_lay_good C T N w hw) _
  have hst := (u_facts hfc hkC (u_lays hts (fun _ z => z) hk) hi).1
  simp only [hC] at hi
  have hslot : cell.slots[f.slot]? = some (mj_sh G (mj_fv h a k (mj_tc (T k).2.2.1))) := by rw [hsl]; exact q4 k hk
  rcases hl with hl | ⟨x, hl⟩
  · exact W.getf hx hb hown (hKK.2.1.use hl rfl _) hi hst q1 (by rw [q3]; exact fun h => by cases h) hslot rfl rfl hd kk
  · exact va_Wgetf hx hb hown (hKK.2.1.use hl rfl _) hi hst q1 (by rw [q3]; exact fun h => by cases h) hslot rfl rfl hd kk
theorem mj_putf (hx : p.tables.exec = Jvm.exec) (hb : c.code = cc) (hown : s.vm.findClass own = some m.cls) (hKK : mj_KK G s) (hp : mj_P G h H) {a idx ci k : Nat} {C : String} {T : u_T} {N : Nat} (hf : mj_okf own idx ci k C T N) (ha : hK h a = 10 + ci) (hci : ci < 50) (hd : decode cc pc = .ok (.putfield idx, 3)) (hlo : ∀ q ∈ locs, gN G < q.base)
    {ty : FieldType} {v : Value} (hty : parseFieldDescriptor (T k).2.2.1 = some ty) (hn : narrow ty v = v) (hfit : fits ty v = true) (hfin : (T k).2.2.2 = false ∨ ((T k).2.2.2 = true ∧ own = C ∧ meth.name = "<init>" ∧ Cond.fieldLink own idx C (T k).2.1 (T k).2.2.1 ∈ lw_tbl)) {h' : mj_H}
    (e1 : ∀ k', k' ≠ a → h'.1 k' = h.1 k') (e2 : ∀ k', k' ≠ a → h'.2.1 k' = h.2.1 k') (e3 : ∀ k', k' ≠ a → h'.2.2.1 k' = h.2.2.1 k') (e4 : h'.2.2.2 = h.2.2.2) (ev : ∀ j, j < N → mj_sh G (mj_fv h' a j (mj_tc (T j).2.2.1)) = updV (fun j => mj_sh G (mj_fv h a j (mj_tc (T j).2.2.1))) k v j)
    (kk : ∀ H1 locs1, mj_P G h' H1 → (∀ q ∈ locs1, gN G < q.base) → W p l e R s m args below meth c H1 locs1 cells slots Q (F0 m (pc + 3) ls rest)) : W p l e R s m args below meth c H locs cells slots Q (F0 m pc ls (v :: .ref (mj_ad G a) :: rest)) := by
  obtain ⟨hc, hk, hC, hl⟩ := hf
  have h0 : a ≠ 0 := (hp.2 a).2.1 (by omega) (by omega)
  have ht : a < hT h := (hp.2 a).1 (by omega)
  obtain ⟨cell, q1, q2, q3, q4⟩ := (hp.2 a).2.2.2.2.2.2.1 ci _ ha hc
  have hKc := hKK.1.1 ci _ hc
  obtain ⟨hS, hfc, kC, hkC, hkind⟩ := hKc
  obtain ⟨cf, kf, fi, f, hi, hsl⟩ := hS k hk
  obtain ⟨hin, hnm, t0, ht0⟩ := mj_cls hc
  have hts : ∀ w ∈ u_ws C T N, w.before args s = true := fun w hw => hKK.2.1.use (hin w hw) (mj_lay_good C T N w hw) _
  have hap := va_apart (own := own) hts (fun _ z => z) t0 ht0 hnm hKK.1 hc
  have hst := (u_facts hfc hkC (u_lays hts (fun _ z => z) hk) hi).1
  have hlay := hts _ (u_in_lay hk)
  have hi' : s.fieldFound? C (T k).2.1 (T k).2.2.1 = some (cf, kf, fi, f) := by rw [← hC]; exact hi
  have fin : ∀ H1 : Heap, H1[mj_ad G a]? = some (cell.setSlot f.slot v) → H1.size = H.size → (∀ q, q ≠ mj_ad G a → H1[q]? = H[q]?) → W p l e R s m args below meth c H1 (locs ++ [⟨mj_ad G a, f.slot⟩]) cells slots Q (F0 m (pc + 3) ls rest) := by
    intro H1 g1 z oq
    rw [hsl] at g1 ⊢
    have eT : hT h' = hT h := congrArg (fun x => x.2) e4
    have eK : hK h' a = hK h a := by show (h'.2.2.2.1 a).1 = _; rw [e4]
    refine kk H1 _ (hp.upd hKK.2.2.2 h0 e1 e2 e3 e4 z oq (mj_C.obj (ci := ci) (by rw [eK]; exact ha) hci ⟨_, hc⟩ h0 (by rw [eT]; exact ht) (fun r hr => ?_))) (fun q hq => ?_)
    · have : r = (C, T, N) := Option.some.inj (hr.symm.trans hc)
      subst this
      exact t_OB.to (V := updV (fun j => mj_sh G (mj_fv h a j (mj_tc (T j).2.2.1))) k v) ⟨_, g1, q2, q3, t_set q4 hap hk v⟩ (fun j hj => (ev j hj).symm)
    · rcases List.mem_append.mp hq with h1 | h1
      · exact hlo q h1
      · rw [List.mem_singleton.mp h1, mj_ad_pos G h0]
        show gN G < gN G + a
        omega
  have hlt : f.slot < cell.slots.size := by rw [hsl]; exact k2_hasslot (q4 k hk)
  rcases hfin with hfin | ⟨hfin, ho, hm, hlf⟩
  · unfold u_lay at hlay
    rw [if_neg (by rw [hfin]; decide)] at hlay
    have h6 := u_store hfc hkC hkind hlay hi hty hn hfit
    rcases hl with hl | ⟨x, hl⟩
    · exact W.putK hx hb (f := f) ⟨hown, hKK.2.1.use hl rfl _, ⟨_, _, _, hi'⟩, hst⟩ (by rw [q2]; exact h6) q1 q3 hlt rfl rfl hd fin
    · exact va_WputK hx hb (f := f) hown (hKK.2.1.use hl rfl _) hi' hst (by rw [q2]; exact h6) q1 q3 hlt rfl rfl hd fin
  · unfold u_lay at hlay
    rw [if_pos hfin] at hlay
    have hcf : m.cls = cf := by
      obtain ⟨_, _, c', _, _, _, -, -, hf', -, -, -, hown2, -⟩ := Cond.laysFinal_spec hlay
      have e1 : c' = cf := by have := hi.symm.trans hf'; simp at this; exact this.1.symm
      rw [hC, ← ho] at hown2
      rw [← e1]; exact Option.some.inj (hown.symm.trans hown2)
    have h6 := u_fits hfc hkC hkind (Or.inr hlay) hi hty hn hfit
    exact W.putFinK hx hb hown (hKK.2.1.use hlf rfl _) hi' hst hcf hm (by rw [q2]; exact h6) q1 q3 hlt rfl rfl hd fin
/-- a new cell stands behind the others -/
theorem mj_P.new {H1 : Heap} {kd n : Nat} (hp : mj_P G h H) (hb : gb G ≤ gN G) (z : H1.size = H.size + 1) (oq : ∀ q, q < H.size → H1[q]? = H[q]?) (hc : mj_C G (hNew h kd n) H1 (hT h)) : mj_P G (hNew h kd n) H1 := by
  have h0 := hp.1.2.1
  have hs := hp.1.1
  refine ⟨⟨by rw [z, hs]; exact Nat.add_assoc _ _ _, Nat.succ_pos _, fun q hq => ?_⟩, fun k => ?_⟩
  · rw [oq q (by omega)]
    exact hp.1.2.2 q hq
  · by_cases hk : k = hT h
    · rw [hk]; exact hc
    · have e4 : (hNew h kd n).2.2.2.1 k = h.2.2.2.1 k := by simp [hNew, hk]
      refine (hp.2 k).kept (mj_row_ne hk) (mj_row_ne hk) (mj_row_ne hk) e4 (Nat.le_succ _) (fun g1 g2 => oq _ ?_) (fun g => ?_) ?_
      · have hlt := (hp.2 k).1 g1
        have hk0 := (hp.2 k).2.1 g1 g2
        rw [mj_ad_pos G hk0, hs]
        omega
      · exact ⟨mj_row_ne (by omega), by simp [hNew]; omega⟩
      · intro hk0
        rcases Nat.lt_or_gt_of_ne hk with hlt | hgt
        · exact Or.inl (oq _ (by rw [mj_ad_pos G hk0, hs]; omega))
        · exact Or.inr (Array.getElem?_eq_none (by rw [mj_ad_pos G hk0, z, hs]; omega))
theorem mj_fresh_ad (hp : mj_P G h H) : mj_ad G (hT h) = H.size := by
  rw [mj_ad_pos G (Nat.ne_of_gt hp.1.2.1), hp.1.1]
theorem mj_newK (h : mj_H) (kd n : Nat) : hK (hNew h kd n) (hT h) = kd := by simp [hK, hNew]
theorem mj_newN (h : mj_H) (kd n : Nat) : hN (hNew h kd n) (hT h) = n := by simp [hN, hNew]
theorem mj_newI (h : mj_H) (kd n j : Nat) : hI (hNew h kd n) (hT h) j = 0 := by simp [hI, hNew, mj_row]
theorem mj_newJ (h : mj_H) (kd n j : Nat) : hJ (hNew h kd n) (hT h) j = 0 := by simp [hJ, hNew, mj_row]
theorem mj_newR (h : mj_H) (kd n j : Nat) : hR (hNew h kd n) (hT h) j = none := by simp [hR, hNew, mj_row]
/-- new: an object of the class number ci -/
theorem mj_newo (hx : p.tables.exec = Jvm.exec) (hb : c.code = cc) (hown : s.vm.findClass own = some m.cls) (hKK : mj_KK G s) (hp : mj_P G h H) {idx ci : Nat} {C : String} {T : u_T} {N : Nat} (hc : mj_cl[ci]? = some (C, T, N)) (hci : ci < 50) (hl : Cond.classLink own idx C ∈ lw_tbl) (hins : Cond.instantiable C N ∈ lw_tbl) (hini : Cond.initialized C ∈ lw_tbl)
    (hdf : ∀ j, j < N → ∀ ty, parseFieldDescriptor (T j).2.2.1 = some ty → defaultValue ty = (if mj_tc (T j).2.2.1 = 1 then .long 0 else if mj_tc (T j).2.2.1 = 0 then .int 0 else .null))
    (hcells : cells + 1 ≤ R.cells) (hslots : slots + N ≤ R.slots) (hd : decode cc pc = .ok (.new idx, 3))
    (k : ∀ H1, mj_P G (hNew h (10 + ci) 0) H1 → W p l e R s m args below meth c H1 locs (cells + 1) (slots + N) Q (F0 m (pc + 3) ls (.ref (mj_ad G (hT h)) :: rest))) : W p l e R s m args below meth c H locs cells slots Q (F0 m pc ls rest) := by
  have hKn := hKK.1.1 ci _ hc
  refine W.newcK hx hb hown (hKK.2.1.use hl rfl _) (hKK.2.1.use hins rfl _) (hKK.2.1.use hini rfl _) rfl hd hcells hslots hKn.2.1 rfl fun H1 kC hkC e1 z1 o1 => ?_
  have ha := mj_fresh_ad hp
  rw [← ha] at e1 ⊢
  refine k H1 (hp.new hKK.2.2.2 z1 o1 (mj_C.obj (ci := ci) (mj_newK _ _ _) hci ⟨_, hc⟩ (Nat.ne_of_gt hp.1.2.1) (Nat.lt_succ_self _) (fun r hr => ?_)))
  have : r = (C, T, N) := Option.some.inj (hr.symm.trans hc)
  subst this
  obtain ⟨hin, hnm, t0, ht0⟩ := mj_cls hc
  have hts : ∀ w ∈ u_ws C T N, w.before args s = true := fun w hw => hKK.2.1.use (hin w hw) (mj_lay_good C T N w hw) _
  refine (u_born t0 hts (fun _ z => z) hKn hkC e1 ht0).to (fun j hj => ?_)
  rw [hdf j hj _ (ht0 j hj)]
  unfold mj_fv
  rw [mj_newI, mj_newJ, mj_newR]
  by_cases g1 : mj_tc (T j).2.2.1 = 1
  · rw [if_pos g1, if_pos g1]; rfl
  · rw [if_neg g1, if_neg g1]
    by_cases g2 : mj_tc (T j).2.2.1 = 0
    · rw [if_pos g2, if_pos g2]; rfl
    · rw [if_neg g2, if_neg g2]; rfl
/-- newarray: kd 1 int, 2 long, 3 short, 4 boolean -/
def mj_akind (t : ArrayType) : Nat := match t with
  | .int => 1
  | .long => 2
  | .short => 3
  | .boolean => 4
  | _ => 0
theorem mj_newa (hx : p.tables.exec = Jvm.exec) (hb : c.code = cc) (hKK : mj_KK G s) (hp : mj_P G h H) {t : ArrayType} (hk0 : mj_akind t ≠ 0) (hl : Cond.arrayClass (newarray.typeOf t) ∈ lw_tbl) {n : Int32} (hn : ¬ n < 0) (hN : n.toNatClampNeg ≤ 1000000) (hcells : cells + 1 ≤ R.cells) (hslots : slots + n.toNatClampNeg ≤ R.slots) (hd : decode cc pc = .ok (.newarray t, 2))
    (k : ∀ H1, mj_P G (hNew h (mj_akind t) n.toNatClampNeg) H1 → W p l e R s m args below meth c H1 locs (cells + 1) (slots + n.toNatClampNeg) Q (F0 m (pc + 2) ls (.ref (mj_ad G (hT h)) :: rest))) : W p l e R s m args below meth c H locs cells slots Q (F0 m pc ls (.int n :: rest)) := by
  refine va_newaK hx hb (hKK.2.1.use hl rfl _) rfl hd rfl hn rfl ?_ hcells hslots rfl fun H1 cA e1 z1 o1 hAr hNm => ?_
  · cases t <;> simp [newarray.typeOf, componentBytes] <;> omega
  have ha := mj_fresh_ad hp
  rw [← ha] at e1
  rw [← ha]
  refine k H1 (hp.new hKK.2.2.2 z1 o1 ?_)
  have hne := Nat.ne_of_gt hp.1.2.1
  cases t <;> first | exact absurd rfl hk0 | skip
  · refine mj_C.int (Or.inr (Or.inr (mj_newK _ _ _))) hne (Nat.lt_succ_self _) ?_
    rw [mj_newK, mj_newN, e1]
    have hc : cA = gA G 4 := Option.some.inj (hNm.symm.trans (hKK.1.2 3 _ rfl).2)
    simp only [mj_newI]
    rw [hc]; rfl
  · refine mj_C.int (Or.inr (Or.inl (mj_newK _ _ _))) hne (Nat.lt_succ_self _) ?_
    rw [mj_newK, mj_newN, e1]
    have hc : cA = gA G 3 := Option.some.inj (hNm.symm.trans (hKK.1.2 2 _ rfl).2)
    simp only [mj_newI]
    rw [hc]; rfl
  · refine mj_C.int (Or.inl (mj_newK _ _ _)) hne (Nat.lt_succ_self _) ?_
    rw [mj_newK, mj_newN, e1]
    have hc : cA = gA G 1 := Option.some.inj (hNm.symm.trans (hKK.1.2 0 _ rfl).2)
    simp only [mj_newI]
    rw [hc]; rfl
  · refine mj_C.long (mj_newK _ _ _) hne (Nat.lt_succ_self _) ?_
    rw [mj_newN, e1]
    have hc : cA = gA G 2 := Option.some.inj (hNm.symm.trans (hKK.1.2 1 _ rfl).2)
    simp only [mj_newJ]
    rw [hc]; rfl
theorem mj_newq (hx : p.tables.exec = Jvm.exec) (hb : c.code = cc) (hown : s.vm.findClass own = some m.cls) (hKK : mj_KK G s) (hp : mj_P G h H) {idx kd : Nat} {C : String} (hk0 : (kd = 5 ∧ C = "FormHouse$Whole") ∨ (kd = 6 ∧ C = "FormHouse$Pair")) (hl : Cond.classLink own idx C ∈ lw_tbl) (hov : Cond.arrayOver (.object C) ∈ lw_tbl) {n : Int32} (hn : ¬ n < 0) (hN : n.toNatClampNeg ≤ 1000000) (hcells : cells + 1 ≤ R.cells) (hslots : slots + n.toNatClampNeg ≤ R.slots) (hd : decode cc pc = .ok (.anewarray idx, 3))
    (k : ∀ H1, mj_P G (hNew h kd n.toNatClampNeg) H1 → W p l e R s m args below meth c H1 locs (cells + 1) (slots + n.toNatClampNeg) Q (F0 m (pc + 3) ls (.ref (mj_ad G (hT h)) :: rest))) : W p l e R s m args below meth c H locs cells slots Q (F0 m pc ls (.int n :: rest)) := by
  refine W.anew hx hb hown (hKK.2.1.use hl rfl _) (hKK.2.1.use hov rfl _) rfl hd rfl hn (by omega) hcells hslots fun cA kA comp f1 f2 f3 f4 => ?_
  generalize hH1 : H.push ({ cls := cA, slots := Array.replicate n.toNatClampNeg .null, vm := .none } : Cell) = H1
  have z1 : H1.size = H.size + 1 := by rw [← hH1, Array.size_push]
  have e1 : H1[H.size]? = some (arrV cA n.toNatClampNeg (fun _ => .null)) := by rw [← hH1, Array.getElem?_push_size, ← arrV_new]
  have o1 : ∀ q : Nat, q < H.size → H1[q]? = H[q]? := fun q hq => by rw [← hH1, Array.getElem?_push, if_neg (Nat.ne_of_lt hq)]
  have ha := mj_fresh_ad hp
  rw [← ha] at e1
  show W p l e R s m args below meth c H1 locs (cells + 1) (slots + n.toNatClampNeg) Q (F0 m (pc + 3) ls (.ref H.size :: rest))
  rw [← ha]
  refine k H1 (hp.new hKK.2.2.2 z1 o1 ?_)
  have hne := Nat.ne_of_gt hp.1.2.1
  have h56 : kd = 5 ∨ kd = 6 := by omega
  refine mj_C.refs (by rw [mj_newK]; exact h56) hne (Nat.lt_succ_self _) ?_
  rw [mj_newK, mj_newN, e1]
  simp only [mj_newR]
  have hc : cA = gA G kd := by
    rcases hk0 with ⟨rfl, rfl⟩ | ⟨rfl, rfl⟩
    · obtain ⟨_, _, _, _, _, g4⟩ := (hKK.1.2 4 _ rfl).2
      exact Option.some.inj (f1.symm.trans g4)
    · obtain ⟨_, _, _, _, _, g4⟩ := (hKK.1.2 5 _ rfl).2
      exact Option.some.inj (f1.symm.trans g4)
  rw [hc]; rfl
end HP3
