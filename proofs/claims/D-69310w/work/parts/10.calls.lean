/-! soundness: calls by contract, both outcomes -/
theorem mj_cw_spec {M : mj_M} {args : Array Value} {U : State} {mk : MethodId} (hn : U.methodNamed? (mM_y M) = some mk) (h : (mj_cw M).before args U = true) : ∃ (meth : Method) (cY : Code), U.vm.method? mk = some meth ∧ meth.code = some cY ∧ cY.maxLocals = mM_l M ∧ cY.code = mM_b M ∧ meth.sig.returnType = mM_r M ∧ meth.locks = false ∧ parseMethodDescriptor (mM_y M).desc = some meth.sig ∧ (mM_h M = [] → cY.exceptionTable.isEmpty = true) := by
  unfold mj_cw at h
  split at h
  · obtain ⟨meth, c, h1, h2, h3, h4, h5, h6, h7, h8⟩ := Cond.code_spec hn h
    exact ⟨meth, c, h1, h2, h4, h3, h5, h6, h8, fun _ => h7⟩
  · rename_i x r hx
    obtain ⟨m9, meth, c, hn9, h1, h2, h3, h4, h7, h5, h6, h8⟩ := Cond.codeWith_spec h
    cases hn.symm.trans hn9
    exact ⟨meth, c, h1, h2, h4, h3, h5, h6, h8, fun z => by rw [hx] at z; cases z⟩
section CB
variable {p : Program} {e : Env} {R : Room} {s : State} {m : MethodId} {sargs : Array Value} {below : List Frame} {meth : Method} {c : Code} {G : mj_G} {h : mj_H}
set_option maxHeartbeats 1000000 in
theorem mj_back {M : mj_M} {mc ms : Nat} {av : List Value} {Po : mj_Q} (hM : mj_Ct G M mc ms av h Po) {U : State} {Ls : List Loc} {c0 s0 : Nat} (X : Stand p (gl G) e R s m sargs below meth c U Ls c0 s0) {g : JFrame} (hg : g.method = m) (hsize : g.locals.size = c.maxLocals) {ig : Instr} (hdg : decode c.code g.pc = .ok (ig, 3)) {mk : MethodId} (hn : U.methodNamed? (mM_y M) = some mk)
    (hP : mj_P G h U.heap) (hKK : mj_KK G U) (hcw : (mj_cw M).before (av.map (mj_sh G)).toArray U = true) (hini : (Cond.initialized (mM_y M).cls).before #[] U = true) (hfr : mM_f M + 1 ≤ R.frames) (hlo : 8 + (mM_l M + 11) + mM_w M ≤ R.locals) (hW : 2 * g.monitorRoom + (g.stack.map fun v => v.category).sum ≤ 8) (hce : c0 + mc ≤ R.cells) (hsl : s0 + ms ≤ R.slots) :
    ∃ (o' : Outcome) (h' : mj_H) (T' : State) (L : List Loc), Po o' h' ∧ mj_P G h' T'.heap ∧ Stand p (gl G) e R s m sargs below meth c T' (Ls ++ L) (c0 + mc) (s0 + ms) ∧ (∀ q ∈ L, gN G < q.base) ∧
      Steps p.tables e below (doInvoke e (U.setTop g) [] mk (av.map (mj_sh G)).toArray).1 (match o' with
        | .returned v => T'.setTop { g with pc := g.pc + 3, stack := (v.map (mj_sh G)).toList ++ g.stack }
        | .threw x => (T'.setTop g).pushFrame (.throwing (mj_ad G x))) := by
  obtain ⟨methY, cY, hmY, hcY, hlY, -, -, -, -, -⟩ := mj_cw_spec hn hcw
  obtain ⟨kY, hkY, -⟩ := className_of_methodNamed hn
  have hinitY : kY.init = .initialized := Cond.initialized_spec (findClass_of_methodNamed hn) hkY hini
  have hh : At U g.method c below := by rw [hg]; exact X.here
  have happ : (headSpec [mj_cw M] (mj_rm M mc ms)).appliesLoose (mM_y M) e.platform (U.calling g mk (av.map (mj_sh G)).toArray) = true :=
    Spec.appliesLoose_calling (g := g) hh hdg hn hkY hinitY
      (X.room_calling (g := g) (R' := mj_rm M mc ms) hsize hmY hcY hfr (by rw [hlY]; show _ + _ + mM_w M ≤ _; omega) hce hsl) (atoms_intro fun w hw => by rw [List.mem_singleton.mp hw]; exact hcw)
  obtain ⟨mid, hmid⟩ := hh.above
  have hfrm : (U.setTop g).frames = (.java g :: mid) ++ below := by rw [State.frames_setTop' g hh.top, hmid]; rfl
  obtain ⟨o, s₂, hsteps, -, hend, hq⟩ := Steps.callFree hM p X.admits X.cas X.clock (acts := []) hfrm happ ⟨rfl, hP, mj_KK.vm (U := U.calling g mk (av.map (mj_sh G)).toArray) (show U.vm = (U.calling g mk (av.map (mj_sh G)).toArray).vm from rfl) hKK⟩ trivial
  have hq' : (∃ o' h', o = mj_shO G o' ∧ Po o' h' ∧ mj_P G h' s₂.heap ∧ mj_KK G s₂) ∧ ∃ L, mj_FE (U.calling g mk (av.map (mj_sh G)).toArray) s₂ L mc ms ∧ ∀ q ∈ L, gN G < q.base := hq
  obtain ⟨⟨o', h', ho, hPo, hP', hKK'⟩, L, ⟨hW₂, e2, q2, q3, q4, q5, q6⟩, hL⟩ := hq'
  rw [State.frames_setTop' g hh.top] at hend
  have e3 : s₂ = ({ (U.calling g mk (av.map (mj_sh G)).toArray).setFrames s₂.frames with heap := s₂.heap, slotsUsed := s₂.slotsUsed } : State).setVm s₂.vm := by
    have : s₂ = ({ s₂ with vm := (U.calling g mk (av.map (mj_sh G)).toArray).vm } : State).setVm s₂.vm := rfl
    rw [e2] at this
    exact this
  have hW' : U.WarmedH s₂.vm := hW₂
  obtain ⟨g₀, hg0⟩ := Option.isSome_iff_exists.mp hh.top
  obtain ⟨r, hr⟩ := State.topJava?_eq_some.mp hg0
  have hsame : U.sameButNew ({ U with heap := s₂.heap, slotsUsed := s₂.slotsUsed } : State) L mc ms := by
    refine ⟨?_, q2, q3, q4, q5, q6⟩
    obtain ⟨t, ht, -⟩ := State.frames_cons hr
    show ({ U with heap := s₂.heap, slotsUsed := s₂.slotsUsed } : State) = { U.setFrames U.frames with heap := s₂.heap, slotsUsed := s₂.slotsUsed }
    rw [State.setFrames_self ht]
  have hr' : (({ U with heap := s₂.heap, slotsUsed := s₂.slotsUsed } : State).setVm s₂.vm).frames = .java g₀ :: r := hr
  have hX : Stand p (gl G) e R s m sargs below meth c (({ U with heap := s₂.heap, slotsUsed := s₂.slotsUsed } : State).setVm s₂.vm) (Ls ++ L) (c0 + mc) (s0 + ms) := by
    subst hg
    exact ⟨X.admits, X.cas, X.clock, X.frames, X.room, X.hears, X.method, X.code, (X.here.setHeapUsed s₂.heap s₂.slotsUsed).setVm hW'.alike, X.tail, State.WarmedH.trans X.warmed hW', X.limits, X.bytes, X.same.trans (hsame.setVm s.vm)⟩
  refine ⟨o', h', (({ U with heap := s₂.heap, slotsUsed := s₂.slotsUsed } : State).setVm s₂.vm), L, hPo, hP', hX, hL, ?_⟩
  cases o' with
  | returned v =>
    have hend' : Ended s₂ (.java g :: U.frames.tail) (.returned (v.map (mj_sh G))) := by rw [ho] at hend; exact hend
    obtain ⟨c₂, i₂, len₂, hc₂, hd₂, hf₂⟩ := hend'
    have hcc : c₂ = c := by
      have h1 : s₂.code? g.method = U.code? g.method := by
        rw [State.code?_eq, State.code?_eq, hW'.alike.method?]
      exact Option.some.inj (hc₂.symm.trans (h1.trans hh.code))
    subst hcc
    have hlen : len₂ = 3 := by rw [hdg] at hd₂; cases hd₂; rfl
    subst hlen
    have hs₂ : s₂ = (({ U with heap := s₂.heap, slotsUsed := s₂.slotsUsed } : State).setVm s₂.vm).setTop { g with pc := g.pc + 3, stack := (v.map (mj_sh G)).toList ++ g.stack } := by
      refine e3.trans ?_
      rw [hf₂, State.calling_eq hh.top, State.setFrames_setFrames, State.setTop_of_frames _ hr', hr]
      rfl
    show Steps p.tables e below _ ((({ U with heap := s₂.heap, slotsUsed := s₂.slotsUsed } : State).setVm s₂.vm).setTop { g with pc := g.pc + 3, stack := (v.map (mj_sh G)).toList ++ g.stack })
    rw [← hs₂]
    exact hsteps
  | threw x =>
    have hend' : Ended s₂ (.java g :: U.frames.tail) (.threw (mj_ad G x)) := by rw [ho] at hend; exact hend
    have hf₂ : s₂.frames = .throwing (mj_ad G x) :: .java g :: U.frames.tail := hend'
    have hs₂ : s₂ = ((({ U with heap := s₂.heap, slotsUsed := s₂.slotsUsed } : State).setVm s₂.vm).setTop g).pushFrame (.throwing (mj_ad G x)) := by
      refine e3.trans ?_
      rw [hf₂, State.calling_eq hh.top, State.setFrames_setFrames, State.pushFrame, State.frames_setTop _ hr', State.setTop_of_frames _ hr', State.setFrames_setFrames, hr]
      rfl
    show Steps p.tables e below _ (((({ U with heap := s₂.heap, slotsUsed := s₂.slotsUsed } : State).setVm s₂.vm).setTop g).pushFrame (.throwing (mj_ad G x)))
    rw [← hs₂]
    exact hsteps
end CB
