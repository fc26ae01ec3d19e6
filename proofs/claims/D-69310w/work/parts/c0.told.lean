/-! the operations that tell what was reckoned -/
theorem int_ex (p : Int32) : ∃ i : Int, p = jI i ∧ -2147483648 ≤ i ∧ i < 2147483648 := ⟨p.toInt, (jI_of p).symm, jI_rg p⟩
section
variable {d w : Int} {n : Nat} {A : Nat → pI} {nxt : Nat → Nat} {cls : Nat → Int} {cnt : Nat} {nm : Nat → Nat}
variable {xs : Nat → Int32} {Ln : Nat} {T : isTF d w n A nxt cls cnt nm} {ord : Fin cnt → Nat} {st : gS cnt} {ps : List Nat} {t u x6 x7 mn : Int} {f : Fm} {e c s1 s2 r wl : Nat} {fs : List Fam} {nb : Int} {ts : List Nat}
variable {G : mj_G} {I : mj_H → Prop} {h : mj_H}
theorem idle0 : idle noT noT := ⟨fun _ z => z.elim, fun _ z => z⟩
theorem idle113 : idle s113 noT := ⟨fun _ z => Or.inr z, fun _ z => z⟩
theorem idleGt : idle inGt noT := ⟨fun _ z => Or.inl z, fun _ z => z⟩
theorem op_102 (hI0 : ∀ h', isSt xs Ln T ord st ps t u x6 x7 mn f e c s1 s2 r wl fs nb ts h' → I h') (hs : isSt xs Ln T ord st ps t u x6 x7 mn f e c s1 s2 r wl fs nb ts h) (p q : Int32) : op1 G I Ln xs 102 266 [.int p, .int q] h := by
  obtain ⟨k, rfl, hk⟩ := int_ex p
  obtain ⟨x, rfl, hx⟩ := int_ex q
  refine op_of (kd := 81) (ok := (0 ≤ k ∧ k < cnt) ∧ 0 ≤ x ∧ x < 3) (v := if x = 0 then (nmF d A nm k.toNat).1 else if x = 1 then (nmF d A nm k.toNat).2.1 else (nmF d A nm k.toNat).2.2) hI0 hs idle113 (fun Q c hQ => ct_102 G (hs.2.1.K 1 rfl) c hQ) (mj_Ct_mono (ct_103 G hs.2.1 T hs.2.2.2.2.1.1.1 hk hx) (fun o h' z => ⟨fun y => z.1 y.1 y.2, z.2⟩)) (fun h1 s1' => mj_Ct_mono (ct_266 G s1'.2.2.1 T s1'.2.2.2.2.2.1.1 hk hx) (fun o h' z => ⟨fun y => z.1 y.1 y.2, z.2⟩))
theorem op_108 (hwd : wdP d w) (hfr : isFr d A cnt nm) (hI0 : ∀ h', isSt xs Ln T ord st ps t u x6 x7 mn f e c s1 s2 r wl fs nb ts h' → I h') (hs : isSt xs Ln T ord st ps t u x6 x7 mn f e c s1 s2 r wl fs nb ts h) (p q : Int32) : op1 G I Ln xs 108 267 [.int p, .int q] h := by
  obtain ⟨i, rfl, hi⟩ := int_ex p
  obtain ⟨j, rfl, hj⟩ := int_ex q
  have c1 := ct_109 G hs.2.1 T hs.2.2.2.2.1.1.1 hi hj
  have c2 := fun h1 (s1' : isSt xs Ln T ord st ps t u x6 x7 mn f e c s1 s2 r wl fs nb ts h1) => ct_267 G s1'.2.2.1 T hwd hfr s1'.2.2.2.2.2.1.1 hi hj
  by_cases z : (0 ≤ i ∧ i < cnt) ∧ 0 ≤ j ∧ j < cnt
  · exact op_of (kd := 81) (ok := (0 ≤ i ∧ i < cnt) ∧ 0 ≤ j ∧ j < cnt) (v := (mulC T ⟨i.toNat, by omega⟩ ⟨j.toNat, by omega⟩).val) hI0 hs idleGt (fun Q c hQ => ct_108 G (hs.2.1.K 1 rfl) c hQ) (mj_Ct_mono c1 (fun o h' q => ⟨fun y => q.1 y.1 y.2, q.2⟩)) (fun h1 s1' => mj_Ct_mono (c2 h1 s1') (fun o h' q => ⟨fun y => q.1 y.1 y.2, q.2⟩))
  · exact op_of (kd := 81) (ok := (0 ≤ i ∧ i < cnt) ∧ 0 ≤ j ∧ j < cnt) (v := 0) hI0 hs idleGt (fun Q c hQ => ct_108 G (hs.2.1.K 1 rfl) c hQ) (mj_Ct_mono c1 (fun o h' q => ⟨fun y => absurd y z, q.2⟩)) (fun h1 s1' => mj_Ct_mono (c2 h1 s1') (fun o h' q => ⟨fun y => absurd y z, q.2⟩))
theorem op_112 (hwd : wdP d w) (hfr : isFr d A cnt nm) (ho : ∀ x, isOrd (mulC T) (oneC T) x (ord x) ∧ ord x ≤ 4096) (ho2 : ∀ x, 0 < ord x ∧ ord x ≤ 4096) (hI0 : ∀ h', isSt xs Ln T ord st ps t u x6 x7 mn f e c s1 s2 r wl fs nb ts h' → I h') (hs : isSt xs Ln T ord st ps t u x6 x7 mn f e c s1 s2 r wl fs nb ts h) (p q : Int32) : op1 G I Ln xs 112 270 [.int p, .int q] h := by
  obtain ⟨i, rfl, hi⟩ := int_ex p
  obtain ⟨j, rfl, hj⟩ := int_ex q
  have c1 := ct_113 G hs.2.1 T hs.2.2.2.2.1.1.1 hs.2.2.2.2.1.1.2.2.1 ho hi hj
  have c2 := fun h1 (s1' : isSt xs Ln T ord st ps t u x6 x7 mn f e c s1 s2 r wl fs nb ts h1) => ct_270 G s1'.2.2.1 T hwd hfr s1'.2.2.2.2.2.1.1 s1'.2.2.2.2.2.1.2.1 ho2 hi hj
  by_cases z : 0 ≤ i ∧ i < cnt
  · exact op_of (kd := 81) (ok := 0 ≤ i ∧ i < cnt) (v := (pw (mulC T) (oneC T) ⟨i.toNat, by omega⟩ (j % (ord ⟨i.toNat, by omega⟩ : Int)).toNat).val) hI0 hs idleGt (fun Q c hQ => ct_112 G (hs.2.1.K 1 rfl) c hQ) (mj_Ct_mono c1 (fun o h' q => ⟨fun y => q.1 y, q.2⟩)) (fun h1 s1' => mj_Ct_mono (c2 h1 s1') (fun o h' q => ⟨fun y => q.1 y, q.2⟩))
  · exact op_of (kd := 81) (ok := 0 ≤ i ∧ i < cnt) (v := 0) hI0 hs idleGt (fun Q c hQ => ct_112 G (hs.2.1.K 1 rfl) c hQ) (mj_Ct_mono c1 (fun o h' q => ⟨fun y => absurd y z, q.2⟩)) (fun h1 s1' => mj_Ct_mono (c2 h1 s1') (fun o h' q => ⟨fun y => absurd y z, q.2⟩))
theorem op_114 (hI0 : ∀ h', isSt xs Ln T ord st ps t u x6 x7 mn f e c s1 s2 r wl fs nb ts h' → I h') (hs : isSt xs Ln T ord st ps t u x6 x7 mn f e c s1 s2 r wl fs nb ts h) (p : Int32) : op1 G I Ln xs 114 271 [.int p] h := by
  obtain ⟨i, rfl, hi⟩ := int_ex p
  have c1 := ct_115 G hs.2.1 T hs.2.2.2.2.1.1.1 hs.2.2.2.2.1.1.2.2.1 hi
  have c2 := fun h1 (s1' : isSt xs Ln T ord st ps t u x6 x7 mn f e c s1 s2 r wl fs nb ts h1) => ct_271 G s1'.2.2.1 T s1'.2.2.2.2.2.1.1 s1'.2.2.2.2.2.1.2.1 hi
  by_cases z : 0 ≤ i ∧ i < cnt
  · exact op_of (kd := 81) (ok := 0 ≤ i ∧ i < cnt) (v := (ord ⟨i.toNat, by omega⟩ : Nat)) hI0 hs idle0 (fun Q c hQ => ct_114 G (hs.2.1.K 1 rfl) c hQ) (mj_Ct_mono c1 (fun o h' q => ⟨fun y => q.1 y, q.2⟩)) (fun h1 s1' => mj_Ct_mono (c2 h1 s1') (fun o h' q => ⟨fun y => q.1 y, q.2⟩))
  · exact op_of (kd := 81) (ok := 0 ≤ i ∧ i < cnt) (v := 0) hI0 hs idle0 (fun Q c hQ => ct_114 G (hs.2.1.K 1 rfl) c hQ) (mj_Ct_mono c1 (fun o h' q => ⟨fun y => absurd y z, q.2⟩)) (fun h1 s1' => mj_Ct_mono (c2 h1 s1') (fun o h' q => ⟨fun y => absurd y z, q.2⟩))
theorem get_ex {α : Type} {l : List α} {i : Int} (h : 0 ≤ i ∧ i < l.length) : ∃ a, l[i.toNat]? = some a := ⟨l[i.toNat]'(by omega), List.getElem?_eq_getElem (by omega)⟩
theorem op_116 (hI0 : ∀ h', isSt xs Ln T ord st ps t u x6 x7 mn f e c s1 s2 r wl fs nb ts h' → I h') (hs : isSt xs Ln T ord st ps t u x6 x7 mn f e c s1 s2 r wl fs nb ts h) (p : Int32) : op1 G I Ln xs 116 272 [.int p] h := by
  obtain ⟨i, rfl, hi⟩ := int_ex p
  have c1 := ct_117 G hs.2.1 hs.2.2.2.2.1.1.2.1 hi
  have c2 := fun h1 (s1' : isSt xs Ln T ord st ps t u x6 x7 mn f e c s1 s2 r wl fs nb ts h1) => ct_272 G s1'.2.2.1 s1'.2.2.2.2.2.1.2.2.1 hi
  by_cases z : 0 ≤ i ∧ i < st.2.2.length
  · obtain ⟨g, hg⟩ := get_ex z
    exact op_of (kd := 81) (ok := 0 ≤ i ∧ i < st.2.2.length) (v := (g.val : Nat)) hI0 hs idle0 (fun Q c hQ => ct_116 G (hs.2.1.K 1 rfl) c hQ) (mj_Ct_mono c1 (fun o h' q => ⟨fun y => q.1 y g hg, q.2⟩)) (fun h1 s1' => mj_Ct_mono (c2 h1 s1') (fun o h' q => ⟨fun y => q.1 y g hg, q.2⟩))
  · exact op_of (kd := 81) (ok := 0 ≤ i ∧ i < st.2.2.length) (v := 0) hI0 hs idle0 (fun Q c hQ => ct_116 G (hs.2.1.K 1 rfl) c hQ) (mj_Ct_mono c1 (fun o h' q => ⟨fun y => absurd y z, q.2⟩)) (fun h1 s1' => mj_Ct_mono (c2 h1 s1') (fun o h' q => ⟨fun y => absurd y z, q.2⟩))
theorem op_118 (hall : ∀ y : Fin cnt, y ∈ st.1) (hI0 : ∀ h', isSt xs Ln T ord st ps t u x6 x7 mn f e c s1 s2 r wl fs nb ts h' → I h') (hs : isSt xs Ln T ord st ps t u x6 x7 mn f e c s1 s2 r wl fs nb ts h) (p q : Int32) : op1 G I Ln xs 118 273 [.int p, .int q] h := by
  obtain ⟨i, rfl, hi⟩ := int_ex p
  obtain ⟨j, rfl, hj⟩ := int_ex q
  have c1 := ct_119 G hs.2.1 hs.2.2.2.2.1.1.1.2.1.1 T.1.2.2.2.2.2.1 hs.2.2.2.2.1.1.2.1 hall hi hj
  have c2 := fun h1 (s1' : isSt xs Ln T ord st ps t u x6 x7 mn f e c s1 s2 r wl fs nb ts h1) => ct_273 G s1'.2.2.1 T s1'.2.2.2.2.2.1.1 s1'.2.2.2.2.2.1.2.2.1 hall hi hj
  by_cases z : (0 ≤ i ∧ i < cnt) ∧ 0 ≤ j ∧ j < st.2.2.length
  · exact op_of (kd := 81) (ok := (0 ≤ i ∧ i < cnt) ∧ 0 ≤ j ∧ j < st.2.2.length) (v := (st.2.1 ⟨i.toNat, by omega⟩ j.toNat : Nat)) hI0 hs idle0 (fun Q c hQ => ct_118 G (hs.2.1.K 1 rfl) c hQ) (mj_Ct_mono c1 (fun o h' q => ⟨fun y => q.1 y.1 y.2, q.2⟩)) (fun h1 s1' => mj_Ct_mono (c2 h1 s1') (fun o h' q => ⟨fun y => q.1 y.1 y.2, q.2⟩))
  · exact op_of (kd := 81) (ok := (0 ≤ i ∧ i < cnt) ∧ 0 ≤ j ∧ j < st.2.2.length) (v := 0) hI0 hs idle0 (fun Q c hQ => ct_118 G (hs.2.1.K 1 rfl) c hQ) (mj_Ct_mono c1 (fun o h' q => ⟨fun y => absurd y z, q.2⟩)) (fun h1 s1' => mj_Ct_mono (c2 h1 s1') (fun o h' q => ⟨fun y => absurd y z, q.2⟩))
theorem op_120 (hI0 : ∀ h', isSt xs Ln T ord st ps t u x6 x7 mn f e c s1 s2 r wl fs nb ts h' → I h') (hs : isSt xs Ln T ord st ps t u x6 x7 mn f e c s1 s2 r wl fs nb ts h) (p : Int32) : op1 G I Ln xs 120 262 [.int p] h := by
  obtain ⟨i, rfl, hi⟩ := int_ex p
  have c1 := ct_121 G hs.2.1 hs.2.2.2.2.1.1.2.2.2.1 hi
  have c2 := fun h1 (s1' : isSt xs Ln T ord st ps t u x6 x7 mn f e c s1 s2 r wl fs nb ts h1) => ct_262 G s1'.2.2.1 s1'.2.2.2.2.2.1.2.2.2 hi
  by_cases z : 0 ≤ i ∧ i < ps.length
  · obtain ⟨g, hg⟩ := get_ex z
    exact op_of (kd := 81) (ok := 0 ≤ i ∧ i < ps.length) (v := (g : Nat)) hI0 hs idle0 (fun Q c hQ => ct_120 G (hs.2.1.K 1 rfl) c hQ) (mj_Ct_mono c1 (fun o h' q => ⟨fun y => q.1 y g hg, q.2⟩)) (fun h1 s1' => mj_Ct_mono (c2 h1 s1') (fun o h' q => ⟨fun y => q.1 y g hg, q.2⟩))
  · exact op_of (kd := 81) (ok := 0 ≤ i ∧ i < ps.length) (v := 0) hI0 hs idle0 (fun Q c hQ => ct_120 G (hs.2.1.K 1 rfl) c hQ) (mj_Ct_mono c1 (fun o h' q => ⟨fun y => absurd y z, q.2⟩)) (fun h1 s1' => mj_Ct_mono (c2 h1 s1') (fun o h' q => ⟨fun y => absurd y z, q.2⟩))
theorem op_134 (hI0 : ∀ h', isSt xs Ln T ord st ps t u x6 x7 mn f e c s1 s2 r wl fs nb ts h' → I h') (hs : isSt xs Ln T ord st ps t u x6 x7 mn f e c s1 s2 r wl fs nb ts h) (p : Int32) : op1 G I Ln xs 134 274 [.int p] h := by
  obtain ⟨i, rfl, hi⟩ := int_ex p
  exact op_of (kd := 81) (ok := 0 ≤ i ∧ i < 3) (v := if i = 0 then f.1 else if i = 1 then f.2.1 else f.2.2) hI0 hs idle0 (fun Q c hQ => ct_134 G (hs.2.1.K 1 rfl) c hQ) (ct_135 G hs.2.1 hs.2.2.2.2.1.2.1.1.1 hi) (fun h1 s1' => ct_274 G s1'.2.2.1 s1'.2.2.2.2.2.2.2.1.1.1 s1'.2.2.2.2.2.2.2.1.1.2.1 s1'.2.2.2.2.2.2.2.1.1.2.2 hi)
theorem fam_at {fs : List Fam} {P : Nat → Fam → Prop} (h : ∀ i t, fs[i]? = some t → P i t) (j : Nat) (hj : j < fs.length) : P j (fs.getD j (0, 0, 0, 0)) := by
  have e : fs[j]? = some (fs.getD j (0, 0, 0, 0)) := by
    rw [List.getD_eq_getElem?_getD, List.getElem?_eq_getElem hj]
    rfl
  exact h j _ e
theorem op_170 (hI0 : ∀ h', isSt xs Ln T ord st ps t u x6 x7 mn f e c s1 s2 r wl fs nb ts h' → I h') (hs : isSt xs Ln T ord st ps t u x6 x7 mn f e c s1 s2 r wl fs nb ts h) (p : Int32) : op1 G I Ln xs 170 275 [.int p] h := by
  obtain ⟨i, rfl, hi⟩ := int_ex p
  exact op_of (kd := 81) (ok := 0 ≤ i ∧ i < fs.length) (v := (fs.getD i.toNat (0, 0, 0, 0)).1) hI0 hs idle0 (fun Q c hQ => ct_170 G (hs.2.1.K 1 rfl) c hQ) (ct_171 G hs.2.1 hs.2.2.2.2.1.2.2.1.2.1 hs.2.2.2.2.1.2.2.1.2.2.1 hi (D := fun j => (fs.getD j (0, 0, 0, 0)).1) (fun j hj => (fam_at hs.2.2.2.2.1.2.2.1.2.2.2 j hj).1)) (fun h1 s1' => ct_275 G s1'.2.2.1 s1'.2.2.2.2.2.2.2.2.2.1.2.1 s1'.2.2.2.2.2.2.2.2.2.1.2.2.1 hi (D := fun j => (fs.getD j (0, 0, 0, 0)).1) (fun j hj => (fam_at s1'.2.2.2.2.2.2.2.2.2.1.2.2.2 j hj).1))
theorem op_172 (hI0 : ∀ h', isSt xs Ln T ord st ps t u x6 x7 mn f e c s1 s2 r wl fs nb ts h' → I h') (hs : isSt xs Ln T ord st ps t u x6 x7 mn f e c s1 s2 r wl fs nb ts h) (p : Int32) : op1 G I Ln xs 172 277 [.int p] h := by
  obtain ⟨i, rfl, hi⟩ := int_ex p
  exact op_of (kd := 81) (ok := 0 ≤ i ∧ i < fs.length) (v := (fs.getD i.toNat (0, 0, 0, 0)).2.1) hI0 hs idle0 (fun Q c hQ => ct_172 G (hs.2.1.K 1 rfl) c hQ) (ct_173 G hs.2.1 hs.2.2.2.2.1.2.2.1.2.1 hs.2.2.2.2.1.2.2.1.2.2.1 hi (D := fun j => (fs.getD j (0, 0, 0, 0)).2.1) (fun j hj => (fam_at hs.2.2.2.2.1.2.2.1.2.2.2 j hj).2.1)) (fun h1 s1' => ct_277 G s1'.2.2.1 s1'.2.2.2.2.2.2.2.2.2.1.2.1 s1'.2.2.2.2.2.2.2.2.2.1.2.2.1 hi (D := fun j => (fs.getD j (0, 0, 0, 0)).2.1) (fun j hj => (fam_at s1'.2.2.2.2.2.2.2.2.2.1.2.2.2 j hj).2.1))
theorem op_176 (hI0 : ∀ h', isSt xs Ln T ord st ps t u x6 x7 mn f e c s1 s2 r wl fs nb ts h' → I h') (hs : isSt xs Ln T ord st ps t u x6 x7 mn f e c s1 s2 r wl fs nb ts h) (p : Int32) : op1 G I Ln xs 176 278 [.int p] h := by
  obtain ⟨i, rfl, hi⟩ := int_ex p
  have tcl := hs.2.2.2.2.1.2.2.2.1.2
  have c1 := ct_177 G hs.2.1 hs.2.2.2.2.1.2.2.2.1.1.1 tcl hs.2.2.2.2.1.2.2.2.1.1.2 hi
  have c2 := fun h1 (s1' : isSt xs Ln T ord st ps t u x6 x7 mn f e c s1 s2 r wl fs nb ts h1) => ct_278 G s1'.2.2.1 s1'.2.2.2.2.2.2.2.2.2.2.1.1 tcl s1'.2.2.2.2.2.2.2.2.2.2.1.2 hi
  by_cases z : 0 ≤ i ∧ i < ts.length
  · obtain ⟨g, hg⟩ := get_ex z
    exact op_of (kd := 81) (ok := 0 ≤ i ∧ i < ts.length) (v := (g : Nat)) hI0 hs idle0 (fun Q c hQ => ct_176 G (hs.2.1.K 1 rfl) c hQ) (mj_Ct_mono c1 (fun o h' q => ⟨fun y => q.1 y g hg, q.2⟩)) (fun h1 s1' => mj_Ct_mono (c2 h1 s1') (fun o h' q => ⟨fun y => q.1 y g hg, q.2⟩))
  · exact op_of (kd := 81) (ok := 0 ≤ i ∧ i < ts.length) (v := 0) hI0 hs idle0 (fun Q c hQ => ct_176 G (hs.2.1.K 1 rfl) c hQ) (mj_Ct_mono c1 (fun o h' q => ⟨fun y => absurd y z, q.2⟩)) (fun h1 s1' => mj_Ct_mono (c2 h1 s1') (fun o h' q => ⟨fun y => absurd y z, q.2⟩))
end
