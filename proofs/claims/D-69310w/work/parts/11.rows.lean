/-! soundness: call rows, returns, throws, arraycopy -/
/-- a callee of the constant pool: its words -/
def mj_okM (M : mj_M) : Prop := mj_cw M ∈ lw_tbl ∧ Cond.initialized (mM_y M).cls ∈ lw_tbl ∧ ((mM_y M).cls ≠ "java/lang/invoke/MethodHandle" ∧ (mM_y M).cls ≠ "java/lang/invoke/VarHandle") ∧ (parseMethodDescriptor (mM_y M).desc).map (fun d => d.parameters.length) = some (mM_n M)
def mj_okl (own : String) (idx : Nat) (y : MethodName) : Prop := Cond.methodLink own idx y ∈ lw_tbl ∨ ∃ x, Cond.methodLinkNest own idx y x ∈ lw_tbl
theorem mj_cw_good (M : mj_M) : mj_good (mj_cw M) = true := by
  unfold mj_cw
  split <;> rfl
section RW1
variable {p : Program} {e : Env} {R : Room} {s : State} {m : MethodId} {args : Array Value} {below : List Frame} {meth : Method} {c : Code} {H : Heap} {locs : List Loc} {cells slots : Nat} {Q : State → Prop} {cc : ByteArray} {pc nL : Nat} {ls : Array Slot} {own : String} {G : mj_G} {h : mj_H} {rest : List Value}
/-- the machine with an exception on its way, over the frame g -/
def mj_Wx (p : Program) (l : Launch) (e : Env) (R : Room) (s : State) (m : MethodId) (args : Array Value) (below : List Frame) (meth : Method) (c : Code) (H : Heap) (locs : List Loc) (cells slots : Nat) (Q : State → Prop) (g : JFrame) (x : Addr) : Prop :=
  ∀ T : State, T.heap = H → Stand p l e R s m args below meth c T locs cells slots → ∃ t, Steps p.tables e below ((T.setTop g).pushFrame (.throwing x)) t ∧ Q t
/-- behind a call, by its outcome -/
def mj_Wo (p : Program) (G : mj_G) (e : Env) (R : Room) (s : State) (m : MethodId) (args : Array Value) (below : List Frame) (meth : Method) (c : Code) (H : Heap) (locs : List Loc) (cells slots : Nat) (Q : State → Prop) (pc : Nat) (ls : Array Slot) (rest : List Value) (o : Outcome) : Prop := match o with
  | .returned v => W p (gl G) e R s m args below meth c H locs cells slots Q (F0 m (pc + 3) ls ((v.map (mj_sh G)).toList ++ rest))
  | .threw x => mj_Wx p (gl G) e R s m args below meth c H locs cells slots Q (F0 m pc ls rest) (mj_ad G x)
theorem mj_fin {M : mj_M} {mc ms : Nat} {av : List Value} {Po : mj_Q} (hM : mj_Ct G M mc ms av h Po) (hx : p.tables.exec = Jvm.exec) (hb : c.code = cc) (hml : c.maxLocals = nL) (hls : ls.size = nL) (hKK : mj_KK G s) (hok : mj_okM M) (hp : mj_P G h H) (hfr : mM_f M + 1 ≤ R.frames) (hlo : 8 + (mM_l M + 11) + mM_w M ≤ R.locals) (hW : mj_wt rest = true) (hce : cells + mc ≤ R.cells) (hsl : slots + ms ≤ R.slots) (hloc : ∀ q ∈ locs, gN G < q.base) {i : Instr} (hd : decode cc pc = .ok (i, 3)) {stk : List Value}
    (hstep : ∀ T : State, T.heap = H → Stand p (gl G) e R s m args below meth c T locs cells slots → ∃ (mk : MethodId) (vm₁ : Vm), s.methodNamed? (mM_y M) = some mk ∧ Stand p (gl G) e R s m args below meth c (T.setVm vm₁) locs cells slots ∧ ∀ target, Steps p.tables e below (doInvoke e ((T.setVm vm₁).setTop (F0 m pc ls rest)) [] mk (av.map (mj_sh G)).toArray).1 target → Steps p.tables e below (T.setTop (F0 m pc ls stk)) target)
    (k : ∀ o' h' H1 locs1, Po o' h' → mj_P G h' H1 → (∀ q ∈ locs1, gN G < q.base) → mj_Wo p G e R s m args below meth c H1 locs1 (cells + mc) (slots + ms) Q pc ls rest o') : W p (gl G) e R s m args below meth c H locs cells slots Q (F0 m pc ls stk) := by
  intro T hT X
  obtain ⟨mk, vm₁, hn, X₁, hst⟩ := hstep T hT X
  have hwt : (rest.map fun v => v.category).sum ≤ 8 := Nat.le_of_ble_eq_true hW
  have hKK1 : mj_KK G (T.setVm vm₁) := hKK.warm X₁.warmed
  obtain ⟨o', h', T', L, hPo, hP', X', hL, hgo⟩ := mj_back hM X₁ (g := F0 m pc ls rest) rfl (hls.trans hml.symm) (by rw [hb]; exact hd) (X₁.named hn) (by rw [show (T.setVm vm₁).heap = H from hT]; exact hp) hKK1 (hKK1.2.1.use hok.1 (mj_cw_good M) _) (hKK1.2.1.use hok.2.1 rfl _) hfr hlo (show 2 * 0 + (rest.map fun v => v.category).sum ≤ 8 by omega) hce hsl
  have hl2 : ∀ q ∈ locs ++ L, gN G < q.base := fun q hq => (List.mem_append.mp hq).elim (hloc q) (hL q)
  have hk := k o' h' T'.heap (locs ++ L) hPo hP' hl2
  cases o' with
  | returned v =>
    obtain ⟨t, a1, b1⟩ := hk T' rfl X'
    exact ⟨t, hst t (hgo.trans a1), b1⟩
  | threw x =>
    obtain ⟨t, a1, b1⟩ := hk T' rfl X'
    exact ⟨t, hst t (hgo.trans a1), b1⟩
theorem mj_rowS {M : mj_M} {mc ms : Nat} {av : List Value} {Po : mj_Q} (hM : mj_Ct G M mc ms av h Po) (hx : p.tables.exec = Jvm.exec) (hb : c.code = cc) (hml : c.maxLocals = nL) (hls : ls.size = nL) (hown : s.vm.findClass own = some m.cls) (hKK : mj_KK G s) (hok : mj_okM M) {idx : Nat} (hl : mj_okl own idx (mM_y M)) (hstt : Cond.static (mM_y M) ∈ lw_tbl) (hn : av.length = mM_n M) (hp : mj_P G h H) (hfr : mM_f M + 1 ≤ R.frames) (hlo : 8 + (mM_l M + 11) + mM_w M ≤ R.locals) (hW : mj_wt rest = true) (hce : cells + mc ≤ R.cells) (hsl : slots + ms ≤ R.slots) (hloc : ∀ q ∈ locs, gN G < q.base) (hd : decode cc pc = .ok (.invokestatic idx, 3))
    (k : ∀ o' h' H1 locs1, Po o' h' → mj_P G h' H1 → (∀ q ∈ locs1, gN G < q.base) → mj_Wo p G e R s m args below meth c H1 locs1 (cells + mc) (slots + ms) Q pc ls rest o') : W p (gl G) e R s m args below meth c H locs cells slots Q (F0 m pc ls ((av.map (mj_sh G)).reverse ++ rest)) := by
  refine mj_fin hM hx hb hml hls hKK hok hp hfr hlo hW hce hsl hloc hd (fun T hT X => ?_) k
  obtain ⟨hcw, hini, hy, hpn⟩ := hok
  have hcode := hKK.2.1.use hcw (mj_cw_good M) args
  have hnamed : ∃ mk, s.methodNamed? (mM_y M) = some mk := by
    unfold mj_cw at hcode
    split at hcode
    · exact Cond.code_named hcode
    · obtain ⟨m9, meth, c, hn9, -⟩ := Cond.codeWith_spec hcode
      exact ⟨m9, hn9⟩
  obtain ⟨mk, hnamed⟩ := hnamed
  obtain ⟨methM, cM, hmethM, -, -, -, -, -, hsigM, -⟩ := mj_cw_spec hnamed hcode
  have hstatic : methM.isStatic = true := Cond.static_spec hnamed hmethM (hKK.2.1.use hstt rfl args)
  obtain ⟨kP, hkP, -⟩ := className_of_methodNamed hnamed
  have hinitP : kP.init = .initialized := Cond.initialized_spec (findClass_of_methodNamed hnamed) hkP (hKK.2.1.use hini rfl args)
  have hlen : (av.map (mj_sh G)).length = methM.sig.parameters.length := by
    rw [hsigM] at hpn
    rw [List.length_map, hn]
    exact (Option.some.inj hpn).symm
  rcases hl with hl | ⟨x, hl⟩
  · obtain ⟨vm₁, X₁, hstep₁⟩ := X.invokestatic hx hown (hKK.2.1.use hl rfl args) hnamed hmethM hstatic hkP hinitP hy (g := F0 m pc ls ((av.map (mj_sh G)).reverse ++ rest)) rfl (argsL := av.map (mj_sh G)) (rest := rest) hlen rfl (by rw [hb]; exact hd)
    exact ⟨mk, vm₁, hnamed, X₁, fun target h => hstep₁ _ fun acts => by rw [doInvoke_state]; exact h⟩
  · obtain ⟨vm₁, X₁, hstep₁⟩ := X.invokestaticNest hx hown (hKK.2.1.use hl rfl args) hnamed hmethM hstatic hkP hinitP hy (g := F0 m pc ls ((av.map (mj_sh G)).reverse ++ rest)) rfl (argsL := av.map (mj_sh G)) (rest := rest) hlen rfl (by rw [hb]; exact hd)
    exact ⟨mk, vm₁, hnamed, X₁, fun target h => hstep₁ _ fun acts => by rw [doInvoke_state]; exact h⟩
theorem mj_rowV {M : mj_M} {mc ms a : Nat} {av : List Value} {Po : mj_Q} (hM : mj_Ct G M mc ms (.ref a :: av) h Po) (hx : p.tables.exec = Jvm.exec) (hb : c.code = cc) (hml : c.maxLocals = nL) (hls : ls.size = nL) (hown : s.vm.findClass own = some m.cls) (hKK : mj_KK G s) (hok : mj_okM M) {idx : Nat} (hl : mj_okl own idx (mM_y M)) (hins : Cond.instanceMethod (mM_y M) ∈ lw_tbl) (hse : Cond.selects (mM_y M).cls (mM_y M) (mM_y M) ∈ lw_tbl) {ci : Nat} {T0 : u_T} {N0 : Nat} (hci : mj_cl[ci]? = some ((mM_y M).cls, T0, N0)) (ha : hK h a = 10 + ci) (hn : av.length = mM_n M) (hp : mj_P G h H) (hfr : mM_f M + 1 ≤ R.frames) (hlo : 8 + (mM_l M + 11) + mM_w M ≤ R.locals) (hW : mj_wt rest = true) (hce : cells + mc ≤ R.cells) (hsl : slots + ms ≤ R.slots) (hloc : ∀ q ∈ locs, gN G < q.base) (hd : decode cc pc = .ok (.invokevirtual idx, 3))
    (k : ∀ o' h' H1 locs1, Po o' h' → mj_P G h' H1 → (∀ q ∈ locs1, gN G < q.base) → mj_Wo p G e R s m args below meth c H1 locs1 (cells + mc) (slots + ms) Q pc ls rest o') : W p (gl G) e R s m args below meth c H locs cells slots Q (F0 m pc ls ((av.map (mj_sh G)).reverse ++ .ref (mj_ad G a) :: rest)) := by
  refine mj_fin hM hx hb hml hls hKK hok hp hfr hlo hW hce hsl hloc hd (fun T hT X => ?_) k
  obtain ⟨hcw, hini, hy, hpn⟩ := hok
  obtain ⟨mk, methM, hnamed, hmethM, hstM, habM⟩ := Cond.instanceMethod_spec (hKK.2.1.use hins rfl args)
  obtain ⟨methM', cM, hmethM', -, -, -, -, -, hsigM, -⟩ := mj_cw_spec hnamed (hKK.2.1.use hcw (mj_cw_good M) args)
  cases hmethM.symm.trans hmethM'
  obtain ⟨cellB, g1, g2, g3, -⟩ := (hp.2 a).2.2.2.2.2.2.1 ci _ ha hci
  have hcls : s.vm.findClass (mM_y M).cls = some cellB.cls := by rw [g2]; exact (hKK.1.1 ci _ hci).2.1
  obtain ⟨c2, r2, m2, q1, q2, q3, q4, kP, hkP, hkPi⟩ := Cond.selects_spec (hKK.2.1.use hse rfl args)
  cases hcls.symm.trans q1
  cases (State.methodFound?_of_named hnamed hy).symm.trans q2
  cases hnamed.symm.trans q3
  have hselP : selectMethod e.platform s.vm cellB.cls mk = .method mk := by rw [Launch.admits_selectMethod X.admits]; exact q4
  have hlen : (av.map (mj_sh G)).length = methM.sig.parameters.length := by
    rw [hsigM] at hpn
    rw [List.length_map, hn]
    exact (Option.some.inj hpn).symm
  rcases hl with hl | ⟨x, hl⟩
  · obtain ⟨vm₁, X₁, hstep₁⟩ := X.invokevirtual hx hown (hKK.2.1.use hl rfl args) hnamed hmethM hstM hkP hkPi hy (a := mj_ad G a) (cell := cellB) (by rw [hT]; exact g1)
      (fun z h => by rw [g3] at h; cases h) hselP hmethM habM hkP hkPi (g := F0 m pc ls ((av.map (mj_sh G)).reverse ++ .ref (mj_ad G a) :: rest)) rfl (argsL := av.map (mj_sh G)) (rest := rest) hlen rfl (by rw [hb]; exact hd)
    exact ⟨mk, vm₁, hnamed, X₁, fun target h => hstep₁ _ fun acts => by rw [doInvoke_state]; exact h⟩
  · obtain ⟨vm₁, X₁, hstep₁⟩ := X.invokevirtualNest hx hown (hKK.2.1.use hl rfl args) hnamed hmethM hstM hkP hkPi hy (a := mj_ad G a) (cell := cellB) (by rw [hT]; exact g1)
      (fun z h => by rw [g3] at h; cases h) hselP hmethM habM hkP hkPi (g := F0 m pc ls ((av.map (mj_sh G)).reverse ++ .ref (mj_ad G a) :: rest)) rfl (argsL := av.map (mj_sh G)) (rest := rest) hlen rfl (by rw [hb]; exact hd)
    exact ⟨mk, vm₁, hnamed, X₁, fun target h => hstep₁ _ fun acts => by rw [doInvoke_state]; exact h⟩
theorem mj_rowI {M : mj_M} {mc ms a : Nat} {av : List Value} {Po : mj_Q} (hM : mj_Ct G M mc ms (.ref a :: av) h Po) (hx : p.tables.exec = Jvm.exec) (hb : c.code = cc) (hml : c.maxLocals = nL) (hls : ls.size = nL) (hown : s.vm.findClass own = some m.cls) (hKK : mj_KK G s) (hok : mj_okM M) (hnil : mM_h M = []) (hrn : mM_r M = none) {idx : Nat} (hl : mj_okl own idx (mM_y M)) (hini' : (mM_y M).name = "<init>") (hins : Cond.instanceMethod (mM_y M) ∈ lw_tbl) (hn : av.length = mM_n M) (hp : mj_P G h H) (hfr : mM_f M + 1 ≤ R.frames) (hlo : 8 + (mM_l M + 11) + mM_w M ≤ R.locals) (hW : mj_wt rest = true) (hce : cells + mc ≤ R.cells) (hsl : slots + ms ≤ R.slots) (hloc : ∀ q ∈ locs, gN G < q.base) (hd : decode cc pc = .ok (.invokespecial idx, 3))
    (k : ∀ o' h' H1 locs1, Po o' h' → mj_P G h' H1 → (∀ q ∈ locs1, gN G < q.base) → mj_Wo p G e R s m args below meth c H1 locs1 (cells + mc) (slots + ms) Q pc ls rest o') : W p (gl G) e R s m args below meth c H locs cells slots Q (F0 m pc ls ((av.map (mj_sh G)).reverse ++ .ref (mj_ad G a) :: rest)) := by
  refine mj_fin hM hx hb hml hls hKK hok hp hfr hlo hW hce hsl hloc hd (fun T hT X => ?_) k
  obtain ⟨hcw, hini, hy, hpn⟩ := hok
  have hpl : e.platform.magicAccessors = ({} : Platform).magicAccessors := by rw [X.admits.platform]
  have hcode : (Cond.code (mM_y M) (mM_b M) (mM_l M) none).before args s = true := by
    have h1 := hKK.2.1.use hcw (mj_cw_good M) args
    unfold mj_cw at h1
    rw [hnil, hrn] at h1
    exact h1
  have hlen : ∀ sig, parseMethodDescriptor (mM_y M).desc = some sig → (av.map (mj_sh G)).length = sig.parameters.length := by
    intro sig hs
    rw [hs] at hpn
    rw [List.length_map, hn]
    exact (Option.some.inj hpn).symm
  rcases hl with hl | ⟨x, hl⟩
  · obtain ⟨mk, methM, cM, kP, vm₁, hnamed, hmethM, hcodeM, -, hlocalsM, -, hkP, -, hW₁, hstep₁⟩ := Steps.initColdArgs (e := e) X.here hx X.warmed hpl hown hini' hy (hKK.2.1.use hl rfl args) (hKK.2.1.use hins rfl args) hcode (f := F0 m pc ls ((av.map (mj_sh G)).reverse ++ .ref (mj_ad G a) :: rest)) rfl hlen rfl (by rw [hb]; exact hd)
    exact ⟨mk, vm₁, hnamed, X.noted hW₁, fun target h => hstep₁ _ fun acts => by rw [doInvoke_state]; exact h⟩
  · obtain ⟨mk, methM, cM, kP, vm₁, hnamed, hmethM, hcodeM, -, hlocalsM, -, hkP, -, hW₁, hstep₁⟩ := Steps.initColdArgsNest (e := e) X.here hx X.warmed hpl hown hini' hy (hKK.2.1.use hl rfl args) (hKK.2.1.use hins rfl args) hcode (f := F0 m pc ls ((av.map (mj_sh G)).reverse ++ .ref (mj_ad G a) :: rest)) rfl hlen rfl (by rw [hb]; exact hd)
    exact ⟨mk, vm₁, hnamed, X.noted hW₁, fun target h => hstep₁ _ fun acts => by rw [doInvoke_state]; exact h⟩
/-- how a method's walk ends -/
def mj_MQ (G : mj_G) (below : List Frame) (Po : mj_Q) (s : State) (mc ms : Nat) : State → Prop := fun t =>
  ∃ o, t.status = .running ∧ Ended t below o ∧ (∃ o' h', o = mj_shO G o' ∧ Po o' h' ∧ mj_P G h' t.heap ∧ mj_KK G t) ∧ ∃ L, mj_FE s t L mc ms ∧ ∀ q ∈ L, gN G < q.base
theorem mj_W_mono {l : Launch} {Q Q' : State → Prop} {g : JFrame} (hQ : ∀ t, Q t → Q' t) (k : W p l e R s m args below meth c H locs cells slots Q g) : W p l e R s m args below meth c H locs cells slots Q' g := by
  intro T hT X
  obtain ⟨t, a, b⟩ := k T hT X
  exact ⟨t, a, hQ t b⟩
theorem mj_MQ_of {o' : Outcome} {Po : mj_Q} {mc ms : Nat} (hPo : Po o' h) {t : State} (ht : MQ below (fun _ _ o t => o = mj_shO G o' ∧ mj_P G h t.heap ∧ mj_KK G t) args s mc ms (fun q => gN G < q) t) : mj_MQ G below Po s mc ms t := by
  obtain ⟨o, h1, h2, ⟨h3, h4, h5⟩, L, ⟨-, h6, h7⟩, h8⟩ := ht
  exact ⟨o, h1, h2, ⟨o', h, h3, hPo, h4, h5⟩, L, ⟨h6, h7⟩, h8⟩
variable {mc ms : Nat} {Po : mj_Q}
theorem mj_iret (hx : p.tables.exec = Jvm.exec) (hb : c.code = cc) (hr : meth.sig.returnType = some .int) (hlk : meth.locks = false) (hKK : mj_KK G s) (hp : mj_P G h H) (hlo : ∀ q ∈ locs, gN G < q.base) (hc : cells ≤ mc) (hs : slots ≤ ms) {v : Int32} (hPo : Po (.returned (some (.int v))) h) (hd : decode cc pc = .ok (.ireturn, 1)) : W p (gl G) e R s m args below meth c H locs cells slots (mj_MQ G below Po s mc ms) (F0 m pc ls [.int v]) :=
  W.widen hc hs (mj_W_mono (fun t ht => mj_MQ_of (o' := .returned (some (.int v))) hPo ht) (W.iret (free := fun q => gN G < q) hx hb hr (fun t ht hW => ⟨rfl, by rw [ht]; exact hp, hKK.warm hW⟩) hlo hd hlk))
theorem mj_zret (hx : p.tables.exec = Jvm.exec) (hb : c.code = cc) (hr : meth.sig.returnType = some .boolean) (hlk : meth.locks = false) (hKK : mj_KK G s) (hp : mj_P G h H) (hlo : ∀ q ∈ locs, gN G < q.base) (hc : cells ≤ mc) (hs : slots ≤ ms) {v : Int32} (hv : v = 0 ∨ v = 1) (hPo : Po (.returned (some (.int v))) h) (hd : decode cc pc = .ok (.ireturn, 1)) : W p (gl G) e R s m args below meth c H locs cells slots (mj_MQ G below Po s mc ms) (F0 m pc ls [.int v]) :=
  W.widen hc hs (mj_W_mono (fun t ht => mj_MQ_of (o' := .returned (some (.int v))) hPo ht) (W.zret (free := fun q => gN G < q) hx hb hr (by rcases hv with rfl | rfl <;> rfl) (fun t ht hW => ⟨rfl, by rw [ht]; exact hp, hKK.warm hW⟩) hlo hd hlk))
theorem mj_lret (hx : p.tables.exec = Jvm.exec) (hb : c.code = cc) (hr : meth.sig.returnType = some .long) (hlk : meth.locks = false) (hKK : mj_KK G s) (hp : mj_P G h H) (hlo : ∀ q ∈ locs, gN G < q.base) (hc : cells ≤ mc) (hs : slots ≤ ms) {v : Int64} (hPo : Po (.returned (some (.long v))) h) (hd : decode cc pc = .ok (.lreturn, 1)) : W p (gl G) e R s m args below meth c H locs cells slots (mj_MQ G below Po s mc ms) (F0 m pc ls [.long v]) :=
  W.widen hc hs (mj_W_mono (fun t ht => mj_MQ_of (o' := .returned (some (.long v))) hPo ht) (W.lret (free := fun q => gN G < q) hx hb hr (fun t ht hW => ⟨rfl, by rw [ht]; exact hp, hKK.warm hW⟩) hlo hd hlk))
theorem mj_vret (hx : p.tables.exec = Jvm.exec) (hb : c.code = cc) (hr : meth.sig.returnType = none) (hlk : meth.locks = false) (hKK : mj_KK G s) (hp : mj_P G h H) (hlo : ∀ q ∈ locs, gN G < q.base) (hc : cells ≤ mc) (hs : slots ≤ ms) (hPo : Po (.returned none) h) (hd : decode cc pc = .ok (.return_, 1)) : W p (gl G) e R s m args below meth c H locs cells slots (mj_MQ G below Po s mc ms) (F0 m pc ls []) :=
  W.widen hc hs (mj_W_mono (fun t ht => mj_MQ_of (o' := .returned none) hPo ht) (W.vret (free := fun q => gN G < q) hx hb hr (fun t ht hW => ⟨rfl, by rw [ht]; exact hp, hKK.warm hW⟩) hlo hd hlk))
theorem mj_aret (hx : p.tables.exec = Jvm.exec) (hb : c.code = cc) {C : String} (hr : meth.sig.returnType = some (.object C)) (hlk : meth.locks = false) (hKK : mj_KK G s) (hp : mj_P G h H) (hlo : ∀ q ∈ locs, gN G < q.base) (hc : cells ≤ mc) (hs : slots ≤ ms) {v : Nat} (hPo : Po (.returned (some (.ref v))) h) (hd : decode cc pc = .ok (.areturn, 1)) : W p (gl G) e R s m args below meth c H locs cells slots (mj_MQ G below Po s mc ms) (F0 m pc ls [.ref (mj_ad G v)]) :=
  W.widen hc hs (mj_W_mono (fun t ht => mj_MQ_of (o' := .returned (some (.ref v))) hPo ht) (W.aret (free := fun q => gN G < q) hx hb hr (Or.inl ⟨C, rfl⟩) (Or.inr ⟨_, rfl⟩) (fun t ht hW => ⟨rfl, by rw [ht]; exact hp, hKK.warm hW⟩) hlo hd hlk))
/-- the exception leaves the method -/
theorem mj_leave (hlk : meth.locks = false) (hKK : mj_KK G s) (hp : mj_P G h H) (hlo : ∀ q ∈ locs, gN G < q.base) (hc : cells ≤ mc) (hs : slots ≤ ms) (hno : c.exceptionTable.isEmpty = true) {x : Nat} (hPo : Po (.threw x) h) : mj_Wx p (gl G) e R s m args below meth c H locs cells slots (mj_MQ G below Po s mc ms) (F0 m pc ls rest) (mj_ad G x) := by
  intro T hT X
  have X' := stand_widen X hc hs
  obtain ⟨h1, h2, h3, h4, h5⟩ := X'.leaveThrown (mj_ad G x) (g := F0 m pc ls rest) rfl rfl rfl (fun y hy => by
    rw [Array.isEmpty_iff.mp hno] at hy
    simp at hy) hlk
  exact ⟨_, h1, .threw (mj_ad G x), h2, h3, ⟨.threw x, h, rfl, hPo, by show mj_P G h T.heap; rw [hT]; exact hp, hKK.warm h4⟩, locs, ⟨h4, h5⟩, hlo⟩
theorem mj_athrow {l : Launch} {x : Addr} (hx : p.tables.exec = Jvm.exec) (hb : c.code = cc) (hd : decode cc pc = .ok (.athrow, 1)) (k : mj_Wx p l e R s m args below meth c H locs cells slots Q (F0 m pc ls rest) x) : W p l e R s m args below meth c H locs cells slots Q (F0 m pc ls (.ref x :: rest)) := by
  intro T hT X
  obtain ⟨t, a, b⟩ := k T hT X
  refine ⟨t, ?_, b⟩
  subst hb
  jvm_step X.here [hx, hd, athrow.wp_sem]
  exact a
end RW1
