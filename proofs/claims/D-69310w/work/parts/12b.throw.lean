/-! an exception is made and thrown -/
def mj_xn : List String := ["java/lang/RuntimeException", "java/lang/Exception"]
theorem mj_x_in {C : String} (hC : C = "java/lang/IllegalStateException" ∨ C = "java/lang/IllegalArgumentException" ∨ C = "java/lang/IndexOutOfBoundsException") {w : Cond} (h : w ∈ mj_xC C) : w ∈ mj_xs := by
  unfold mj_xs
  rcases hC with rfl | rfl | rfl
  · exact List.mem_append_left _ h
  · exact List.mem_append_right _ (List.mem_append_left _ h)
  · exact List.mem_append_right _ (List.mem_append_right _ (List.mem_append_left _ h))
section TH
variable {p : Program} {e : Env} {R : Room} {s : State} {m : MethodId} {args : Array Value} {below : List Frame} {meth : Method} {c : Code} {H : Heap} {locs : List Loc} {cells slots : Nat} {cc : ByteArray} {pc nL : Nat} {ls : Array Slot} {own : String} {G : mj_G} {h h0 : mj_H} {rest : List Value} {mc ms : Nat} {Po : mj_Q}
set_option maxHeartbeats 1000000 in
theorem mj_throwx (hx : p.tables.exec = Jvm.exec) (hb : c.code = cc) (hml : c.maxLocals = nL) (hls : ls.size = nL) (hown : s.vm.findClass own = some m.cls) (hKK : mj_KK G s) (hs0 : mj_P G h0 s.heap) (hp : mj_P G h H) {idx ic ci : Nat} {C : String} {T0 : u_T} {N : Nat} (hc : mj_cl[ci]? = some (C, T0, N)) (hC : C = "java/lang/IllegalStateException" ∨ C = "java/lang/IllegalArgumentException" ∨ C = "java/lang/IndexOutOfBoundsException")
    (hl : Cond.classLink own idx C ∈ lw_tbl) (hml0 : Cond.methodLink own ic (Bundle.init0 C) ∈ lw_tbl) (hini : Cond.initialized C ∈ lw_tbl)
    (hd0 : decode cc pc = .ok (.new idx, 3)) (hd1 : decode cc (pc + 3) = .ok (.dup, 1)) (hd2 : decode cc (pc + 4) = .ok (.invokespecial ic, 3)) (hd3 : decode cc (pc + 7) = .ok (.athrow, 1))
    (hfr : 6 ≤ R.frames) (hlo : 90 ≤ R.locals) (hwt : mj_wt rest = true) (hno : c.exceptionTable.isEmpty = true) (hlk : meth.locks = false) (hloc : ∀ q ∈ locs, gN G < q.base) (hce : cells + 1 ≤ mc) (hsl : slots + 6 ≤ ms) (hcR : mc ≤ R.cells) (hsR : ms ≤ R.slots)
    (hPo : Po (.threw (hT h)) (hNew h (60 + ci) 0)) : W p (gl G) e R s m args below meth c H locs cells slots (mj_MQ G below Po s mc ms) (F0 m pc ls rest) := by
  have hKn := hKK.1.1 ci _ hc
  have hat : ∀ w ∈ mj_xC C, w.before args s = true := fun w hw => hKK.2.2.1.2.use hs0.1.2.2 args w (mj_x_in hC hw)
  have hfitC : Bundle.fit C = true := by rcases hC with rfl | rfl | rfl <;> decide +kernel
  have hfitn : ∀ n ∈ mj_xn, Bundle.fit n = true := by
    intro n hn
    simp only [mj_xn, List.mem_cons, List.not_mem_nil, or_false] at hn
    rcases hn with rfl | rfl <;> decide +kernel
  have hins : (Cond.instantiable C 6).before args s = true := hat _ (by simp [mj_xC])
  refine W.newcK hx hb hown (hKK.2.1.use hl rfl _) hins (hKK.2.1.use hini rfl _) rfl hd0 (by omega) (by omega) hKn.2.1 rfl fun H1 kC hkC e1 z1 o1 => ?_
  have had := mj_fresh_ad hp
  have hP1 : mj_P G (hNew h (60 + ci) 0) H1 := hp.new hKK.2.2.2 z1 o1 (mj_C.exc (ci := ci) (mj_newK _ _ _) (Nat.ne_of_gt hp.1.2.1) (Nat.lt_succ_self _) ⟨_, by rw [had]; exact e1, rfl, rfl⟩)
  refine lv_dup hx hb hd1 rfl ?_
  intro T hTe X
  have hpl : e.platform.magicAccessors = ({} : Platform).magicAccessors := by rw [X.admits.platform]
  have howns : e.platform.frameOwnsMonitors = true := by rw [X.admits.platform]
  have hfin : e.platform.finalization = false := by rw [X.admits.platform]
  have htr : e.platform.stackTraces = false := Launch.traces_off hKK.2.2.1.2.2.2 X.admits
  obtain ⟨Th, Z, L, LZ, Y⟩ := ThrowableC.of_atoms (args := args) howns hfin hpl (fun w hw => hat w (by simp only [mj_xC, List.mem_append]; exact Or.inl (Or.inl hw)))
  obtain ⟨P1, Ps, hlen, L1, hLP, hP1m, hlink1, hlink⟩ := Bundle.chain0 (args := args) hpl Y.init0 mj_xn C hfitC hfitn (fun w hw => hat w (by simp only [mj_xC, List.mem_append]; exact Or.inl (Or.inr hw)))
  have hfound : s.vm.findClass C = some P1.m.cls := findClass_of_methodNamed hP1m
  have hcls : (gD G).1 ci = P1.m.cls := Option.some.inj (hKn.2.1.symm.trans hfound)
  rw [hcls] at e1 hkC
  obtain ⟨c1, kX', hc1, hk', hord, -, -, hn6⟩ := Cond.instantiable_spec hins
  cases Option.some.inj (hc1.symm.trans hfound)
  cases Option.some.inj (hkC.symm.trans hk')
  have hsel0 : selectMethod e.platform s.vm P1.m.cls Th.fill0 = .method Th.fill0 := by
    obtain ⟨c2, r2, m2, q1, q2, q3, q4, -⟩ := Cond.selects_spec (hat (.selects C Bundle.tFill0 Bundle.tFill0) (by simp [mj_xC]))
    cases Option.some.inj (q1.symm.trans hfound)
    cases Option.some.inj (q2.symm.trans (State.methodFound?_of_named Y.fill0 (by decide)))
    cases Option.some.inj (q3.symm.trans Y.fill0)
    rw [Launch.admits_selectMethod X.admits]; exact q4
  have hselF : selectMethod e.platform s.vm P1.m.cls Th.fill = .method Th.fill := by
    obtain ⟨c2, r2, m2, q1, q2, q3, q4, -⟩ := Cond.selects_spec (hat (.selects C Bundle.tFill Bundle.tFill) (by simp [mj_xC]))
    cases Option.some.inj (q1.symm.trans hfound)
    cases Option.some.inj (q2.symm.trans (State.methodFound?_of_named Y.fill (by decide)))
    cases Option.some.inj (q3.symm.trans Y.fill)
    rw [Launch.admits_selectMethod X.admits]; exact q4
  obtain ⟨cellS, hcS0, hiss⟩ := Y.statics
  obtain ⟨u0, hu0⟩ := Cond.staticRefV Y.unassigned L.unassignedStatic L.statics hcS0 hiss (hat (.isRef (.static Bundle.tN "UNASSIGNED_STACK" Bundle.steD)) (by simp [mj_xC]))
  obtain ⟨sen, hsen⟩ := Cond.staticRefV Y.sentinel L.sentinelStatic L.statics hcS0 hiss (hat (.isRef (.static Bundle.tN "SUPPRESSED_SENTINEL" Bundle.listD)) (by simp [mj_xC]))
  have haS : Th.aS ≤ gN G := by
    rcases Nat.lt_or_ge (gN G) Th.aS with z | z
    · have h9 := (hs0.2 (Th.aS - gN G)).2.2.2.2.2.2.2.2 (by omega) cellS (by rw [mj_ad_pos G (by omega), show gN G + (Th.aS - gN G) = Th.aS by omega]; exact hcS0)
      rw [h9] at hiss
      cases hiss
    · exact z
  have hcellS : T.heap[Th.aS]? = some cellS := by
    rw [hTe, hP1.1.2.2 _ haS, ← hs0.1.2.2 _ haS]
    exact hcS0
  have hHs : gN G < H.size := by
    rw [hp.1.1]
    have := hp.1.2.1
    omega
  have hneS : Th.aS ≠ H.size := Nat.ne_of_lt (Nat.lt_of_le_of_lt haS hHs)
  have hknownS : cellS.vm ≠ .unknown := by
    intro hu
    rw [hu] at hiss
    cases hiss
  obtain ⟨ci198, i198, fB, hk198, hg198, ha198, hsB, -, hnB, htB, hffB⟩ := Cond.ownField (t := .object "java/lang/Object") Y.found L.cls (by decide +kernel) (hat (.fieldLink Bundle.tN 198 Bundle.tN "backtrace" "Ljava/lang/Object;") (by simp [mj_xC])) (hat (.lays Bundle.tN Bundle.tN "backtrace" "Ljava/lang/Object;") (by simp [mj_xC])) e.platform hpl
  obtain ⟨tyC, dC, hdC, hdnC⟩ := Cond.laysAt hfound hkC Y.cause (hat (.lays C Bundle.tN "cause" "Ljava/lang/Throwable;") (by simp [mj_xC]))
  obtain ⟨tyS, dS, hdS, hdnS⟩ := Cond.laysAt hfound hkC Y.stack (hat (.lays C Bundle.tN "stackTrace" Bundle.steD) (by simp [mj_xC]))
  obtain ⟨tyP, dP, hdP, hdnP⟩ := Cond.laysAt hfound hkC Y.supp (hat (.lays C Bundle.tN "suppressedExceptions" Bundle.listD) (by simp [mj_xC]))
  obtain ⟨tyB, dB, hdB, hdnB⟩ := Cond.laysAt hfound hkC hffB (hat (.lays C Bundle.tN "backtrace" "Ljava/lang/Object;") (by simp [mj_xC]))
  have bC := Cond.laysApart hdB hdC hdnB hdnC (by rw [hnB, Y.causeName]; decide)
  have bS := Cond.laysApart hdB hdS hdnB hdnS (by rw [hnB, Y.stackName]; decide)
  have bP := Cond.laysApart hdB hdP hdnB hdnP (by rw [hnB, Y.suppName]; decide)
  have hskip : SkipFacts Th e.platform s (fun u => u) u0 ((preparedCellV Th.toThrowableT (freshCell P1.m.cls kC) H.size u0 sen).withEntry T.cur) :=
    ⟨{ ci198 := ci198, i198 := i198, fBack := fB }, ⟨hk198, hg198, ha198, hsB⟩, by
      have := fresh_default (c := P1.m.cls) tyB
      rw [htB] at this
      simpa [preparedCellV, Cell.setSlot, Cell.withEntry, Array.getElem?_setIfInBounds, bC, bS, bP, bC.symm, bS.symm, bP.symm, defaultValue] using this, fun _ _ => rfl⟩
  obtain ⟨tm, methC, cdC, kC', vm₁, hnC, -, -, -, -, -, -, -, hW₁, st1⟩ := Steps.initCold (tb := p.tables) (e := e) (below := below) (s := s) (U := T) X.here hx X.warmed hpl hown (t := Bundle.init0 C) rfl rfl (Bundle.fit_spec hfitC).2
    (hKK.2.1.use hml0 rfl args) (hat (.instanceMethod (Bundle.init0 C)) (by simp [mj_xC, Bundle.chain0Atoms, Bundle.passAtoms])) (bytes := Bundle.five) (maxL := 1) (hat (.code (Bundle.init0 C) Bundle.five 1 none) (by simp [mj_xC, Bundle.chain0Atoms, Bundle.passAtoms]))
    (f := F0 m (pc + 4) ls (.ref H.size :: .ref H.size :: rest)) rfl (a := H.size) (rest := .ref H.size :: rest) rfl (by rw [hb]; exact hd2)
  cases Option.some.inj (hnC.symm.trans hP1m)
  have X₁ := X.noted hW₁
  have hsum : (rest.map fun v => v.category).sum ≤ 8 := Nat.le_of_ble_eq_true hwt
  have hcellT : T.heap[H.size]? = some (freshCell P1.m.cls kC) := by rw [hTe]; exact e1
  obtain ⟨vm₂, X₂, st2⟩ := X₁.ctorPlainOffV hx (g := F0 m (pc + 4) ls (.ref H.size :: rest)) rfl (hls.trans hml.symm) Th L Z LZ (P1 :: Ps)
    (fun P hP => by
      rcases List.mem_cons.mp hP with rfl | hP
      · exact L1
      · exact hLP P hP) ⟨hlink1, hlink⟩ (u0 := u0) (sen := sen) (self := H.size) (cell := freshCell P1.m.cls kC) (cellS := cellS)
    hcellT (fun _ => by simp) (by simp) rfl rfl hsel0 hselF hcellS hneS hknownS hu0 hsen
    (Takes.of_laid hkC hord tyC (by rw [Y.causeType]; rfl)) (Takes.of_laid hkC hord tyS (by rw [Y.stackType]; exact fits_refV_array _ u0)) (Takes.of_laid hkC hord tyP (by rw [Y.suppType]; exact fits_refV_object _ sen)) Y.objLocals hskip htr [] (by rw [hb]; exact hd2)
    (by simp only [List.length_cons, hlen]; show 2 + 1 + 2 < _; omega) (by
      simp only [List.length_cons, hlen]
      show 2 * 0 + (1 + (rest.map fun v => v.category).sum) + (13 * (2 + 1) + 41) ≤ _
      omega)
  have hout : ∀ x ∈ c.exceptionTable.toList, covers x (pc + 7) = false := fun y hy => by
    rw [Array.isEmpty_iff.mp hno] at hy
    simp at hy
  obtain ⟨hwalk, hrun, hended, hWU, hsame⟩ := (stand_widen X₂ hce hsl).athrowLeaves hx (g := F0 m (pc + 7) ls (.ref H.size :: rest)) rfl rfl rfl hout (a := H.size) (rest := rest) rfl (by rw [hb]; exact hd3) hlk
  refine ⟨_, st1 _ (fun acts => ?_), .threw H.size, hrun, hended, ⟨.threw (hT h), hNew h (60 + ci) 0, by rw [← had]; rfl, hPo, ?_, hKK.warm hWU⟩, _, ⟨hWU, hsame⟩, ?_⟩
  · rw [doInvoke_state]
    exact st2 _ hwalk
  · have hltH : H.size < ((T.setVm vm₁).setVm vm₂).heap.size := (Array.getElem?_eq_some_iff.mp hcellT).1
    have hU := heapAt_setCell_self (s := (T.setVm vm₁).setVm vm₂) ((preparedCellV Th.toThrowableT (freshCell P1.m.cls kC) H.size u0 sen).setSlot Th.fStack.slot u0.v) hltH
    refine hP1.upd (a := hT h) hKK.2.2.2 (Nat.ne_of_gt hp.1.2.1) (fun _ _ => rfl) (fun _ _ => rfl) (fun _ _ => rfl) rfl ?_ (fun q hq => ?_) (mj_C.exc (ci := ci) (mj_newK _ _ _) (Nat.ne_of_gt hp.1.2.1) (Nat.lt_succ_self _) ⟨_, by rw [had]; exact hU, hcls.symm, rfl⟩)
    · show (((T.setVm vm₁).setVm vm₂).setCell H.size _).heap.size = H1.size
      rw [← hTe]
      simp [State.setCell]
    · rw [had] at hq
      show (((T.setVm vm₁).setVm vm₂).setCell H.size _).heap[q]? = H1[q]?
      rw [← hTe]
      simp [State.setCell, Array.getElem?_setIfInBounds, Ne.symm hq]
  · intro q hq
    rcases List.mem_append.mp hq with h1 | h1
    · exact hloc q h1
    · have hq1 : q.base = H.size := by
        simp only [List.mem_cons, List.not_mem_nil, or_false] at h1
        rcases h1 with rfl | rfl | rfl | rfl <;> rfl
      rw [hq1]
      exact hHs
end TH
