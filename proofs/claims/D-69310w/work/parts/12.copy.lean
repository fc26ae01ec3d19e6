/-! soundness: arraycopy, divisions, comparisons of longs, switches -/
section CP
variable {p : Program} {l : Launch} {e : Env} {R : Room} {s : State} {m : MethodId} {args : Array Value} {below : List Frame} {meth : Method} {c : Code} {H : Heap} {locs : List Loc} {cells slots : Nat} {Q : State → Prop} {cc : ByteArray} {pc : Nat} {ls : Array Slot} {own : String} {G : mj_G} {h : mj_H} {rest : List Value}
set_option maxHeartbeats 1000000 in
theorem mj_copy (hx : p.tables.exec = Jvm.exec) (hb : c.code = cc) (hml : c.maxLocals = ls.size) (hown : s.vm.findClass own = some m.cls) (hKK : mj_KK G s) (hp : mj_P G h H) {idx : Nat} (hl : Cond.methodLink own idx arraycopyName ∈ lw_tbl) (hnat : Cond.native arraycopyName ∈ lw_tbl) (hstt : Cond.static arraycopyName ∈ lw_tbl) (hini : Cond.initialized "java/lang/System" ∈ lw_tbl)
    {a a0 : Nat} (ha : hK h a = 1) (ha0 : hK h a0 = 1) (hne : a ≠ a0) {sp dp n : Int32} (h1 : ¬ sp < 0) (h2 : ¬ dp < 0) (h3 : ¬ n < 0) (h4 : sp.toNatClampNeg + n.toNatClampNeg ≤ hN h a0) (h5 : dp.toNatClampNeg + n.toNatClampNeg ≤ hN h a) (hfr : 1 ≤ R.frames) (hW : mj_wt rest = true) (hlo : 8 + (nativeFrameWords "java/lang/System" "arraycopy" 5 + 11) ≤ R.locals) (hloc : ∀ q ∈ locs, gN G < q.base) (hd : decode cc pc = .ok (.invokestatic idx, 3))
    (k : ∀ H1 locs1, mj_P G (sW h a (va_cpy (h.1 a0) (h.1 a) sp.toNatClampNeg dp.toNatClampNeg n.toNatClampNeg)) H1 → (∀ q ∈ locs1, gN G < q.base) → W p l e R s m args below meth c H1 locs1 cells slots Q (F0 m (pc + 3) ls rest)) : W p l e R s m args below meth c H locs cells slots Q (F0 m pc ls (.int n :: .int dp :: .ref (mj_ad G a) :: .int sp :: .ref (mj_ad G a0) :: rest)) := by
  have hwt : (rest.map fun v => v.category).sum ≤ 8 := Nat.le_of_ble_eq_true hW
  have nn : ∀ z : Int32, ¬ z < 0 → z.toInt = (z.toNatClampNeg : Int) := by
    intro z hz
    have hz0 : (0 : Int) ≤ z.toInt := by
      have := Int32.not_lt.mp hz
      simpa using Int32.le_iff_toInt_le.mp this
    show z.toInt = ((z.toInt.toNat : Nat) : Int)
    omega
  have hA0 : a ≠ 0 := (hp.2 a).2.1 (by omega) (by omega)
  have hAt : a < hT h := (hp.2 a).1 (by omega)
  have hc0 := (hp.2 a0).2.2.1 (Or.inl ha0)
  have hc1 := (hp.2 a).2.2.1 (Or.inl ha)
  rw [ha0] at hc0
  rw [ha] at hc1
  intro T hT X
  obtain ⟨-, k0, hk0, cm0, hkk0⟩ := mj_aty hKK (k := 0) (ty := .int) rfl (hN h a0) (fun j => .int (hI h a0 j))
  obtain ⟨-, k1, hk1, cm1, hkk1⟩ := mj_aty hKK (k := 0) (ty := .int) rfl (hN h a) (fun j => .int (hI h a j))
  obtain ⟨vm', X', step⟩ := X.arraycopy hx hown (hKK.2.1.use hl rfl args) (hKK.2.1.use hnat rfl args) (hKK.2.1.use hstt rfl args) (hKK.2.1.use hini rfl args) (src := mj_ad G a0) (dst := mj_ad G a) (cs := arrV (gA G 1) (hN h a0) (fun j => .int (hI h a0 j))) (cd := arrV (gA G 1) (hN h a) (fun j => .int (hI h a j))) (srcPos := sp) (destPos := dp) (n := n) (by rw [hT]; exact hc0) (by rw [hT]; exact hc1)
    (fun _ h => by cases h) (fun _ h => by cases h) (fun h => by cases h) (fun h => by cases h) hk0 hk1 hkk0 hkk1 (by simp [refKind]) h1 h2 h3
    (by rw [nn sp h1, nn n h3, arrV_size]; omega)
    (by rw [nn dp h2, nn n h3, arrV_size]; omega)
    (fun vm₁ _ i hi => by
      have e : (arrV (gA G 1) (hN h a0) (fun j => .int (hI h a0 j))).slots.getD (sp.toNatClampNeg + i) .null = .int (hI h a0 (sp.toNatClampNeg + i)) := by
        rw [Array.getD_eq_getD_getElem?, arrV_read _ _ (by omega)]
        rfl
      refine ⟨?_, ?_⟩
      · rw [e]
        rfl
      · rw [e]
        exact trivial)
    (g := F0 m pc ls (.int n :: .int dp :: .ref (mj_ad G a) :: .int sp :: .ref (mj_ad G a0) :: rest)) rfl (by rw [hml]) (rest := rest) rfl (by rw [hb]; exact hd) hfr (by show 2 * 0 + _ + _ ≤ _; omega)
  have e1 : copied (arrV (gA G 1) (hN h a0) (fun j => .int (hI h a0 j))) (arrV (gA G 1) (hN h a) (fun j => .int (hI h a j))) sp dp n = arrV (gA G 1) (hN h a) (fun j => .int (va_cpy (h.1 a0) (h.1 a) sp.toNatClampNeg dp.toNatClampNeg n.toNatClampNeg j)) := va_copied (fun z => .int z) (gA G 1) (gA G 1) (h.1 a0) (h.1 a) h4
  rw [e1] at X' step
  generalize hcl : arrV (gA G 1) (hN h a) (fun j => .int (va_cpy (h.1 a0) (h.1 a) sp.toNatClampNeg dp.toNatClampNeg n.toNatClampNeg j)) = cell at X' step
  have hlt : mj_ad G a < H.size := (Array.getElem?_eq_some_iff.mp hc1).1
  have hheap : ((T.setVm vm').setCell (mj_ad G a) cell).heap = H.setIfInBounds (mj_ad G a) cell := by rw [← hT]; rfl
  have oq : ∀ q : Nat, q ≠ mj_ad G a → (H.setIfInBounds (mj_ad G a) cell)[q]? = H[q]? := fun q hq => by simp [Array.getElem?_setIfInBounds, Ne.symm hq]
  have hP1 : mj_P G (sW h a (va_cpy (h.1 a0) (h.1 a) sp.toNatClampNeg dp.toNatClampNeg n.toNatClampNeg)) (H.setIfInBounds (mj_ad G a) cell) := by
    refine hp.upd hKK.2.2.2 hA0 (fun k hk => mj_row_ne hk) (fun _ _ => rfl) (fun _ _ => rfl) rfl (by simp) oq (mj_C.int (Or.inl ha) hA0 hAt ?_)
    have hkk : hK (sW h a (va_cpy (h.1 a0) (h.1 a) sp.toNatClampNeg dp.toNatClampNeg n.toNatClampNeg)) a = 1 := ha
    rw [hkk]
    have : (H.setIfInBounds (mj_ad G a) cell)[mj_ad G a]? = some cell := by simp [Array.getElem?_setIfInBounds, hlt]
    rw [this, ← hcl]
    congr 2
    funext j
    show _ = Value.int (mj_row h.1 a _ a j)
    rw [mj_row_at]
  obtain ⟨t, a1, b1⟩ := k _ _ hP1 (fun q hq => by
      rcases List.mem_append.mp hq with h | h
      · exact hloc q h
      · obtain ⟨z, -, hz⟩ := List.mem_map.mp h
        rw [← hz, mj_ad_pos G hA0]
        show gN G < gN G + a
        omega) _ hheap X'
  exact ⟨t, step t a1, b1⟩
theorem mj_mod64 (x y : Int64) : x - x / y * y = x % y := by
  apply Int64.toInt_inj.mp
  have h1 : (x % y).toInt = x.toInt.tmod y.toInt := Int64.toInt_mod x y
  have h2 : (x % y).toInt.bmod (2 ^ 64) = (x % y).toInt := Int64.toInt_bmod _
  rw [Int64.toInt_sub, Int64.toInt_mul, Int64.toInt_div, Int.sub_bmod_bmod, ← h2, h1, Int.tmod_def]
  rw [Int.sub_bmod, Int.bmod_mul_bmod, ← Int.sub_bmod, Int.mul_comm]
theorem mj_mod32 (x y : Int32) : x - x / y * y = x % y := by
  apply Int32.toInt_inj.mp
  have h1 : (x % y).toInt = x.toInt.tmod y.toInt := Int32.toInt_mod x y
  have h2 : (x % y).toInt.bmod (2 ^ 32) = (x % y).toInt := Int32.toInt_bmod _
  rw [Int32.toInt_sub, Int32.toInt_mul, Int32.toInt_div, Int.sub_bmod_bmod, ← h2, h1, Int.tmod_def]
  rw [Int.sub_bmod, Int.bmod_mul_bmod, ← Int.sub_bmod, Int.mul_comm]
theorem mj_cmp_eq (x y : Int64) : lg_cmp x y = 0 ↔ x = y := by
  unfold lg_cmp
  by_cases h : y < x
  · simp [h]
    intro e
    subst e
    exact Int64.lt_irrefl h
  · by_cases h2 : x = y
    · simp [h2]
    · simp [h, h2]
theorem mj_cmp_lt (x y : Int64) : lg_cmp x y < 0 ↔ x < y := by
  unfold lg_cmp
  by_cases h : y < x
  · simp [h]
    exact Int64.le_of_lt h
  · by_cases h2 : x = y
    · simp [h2]
    · have h1 : ¬ y.toInt < x.toInt := fun z => h (Int64.lt_iff_toInt_lt.mpr z)
      have h3 : x.toInt ≠ y.toInt := fun z => h2 (Int64.toInt_inj.mp z)
      have h4 : x < y := Int64.lt_iff_toInt_lt.mpr (by omega)
      simp [h, h2, h4]
theorem mj_cmp_gt (x y : Int64) : 0 < lg_cmp x y ↔ y < x := by
  unfold lg_cmp
  by_cases h : y < x
  · simp [h]
  · by_cases h2 : x = y
    · simp [h2]
    · simp [h, h2]
theorem mj_cmp_ge (x y : Int64) : 0 ≤ lg_cmp x y ↔ y ≤ x := by
  rw [← Int32.not_lt, mj_cmp_lt, Int64.not_lt]
theorem mj_cmp_le (x y : Int64) : lg_cmp x y ≤ 0 ↔ x ≤ y := by
  rw [← Int32.not_lt, mj_cmp_gt, Int64.not_lt]
end CP
