/-! an exception is caught -/
theorem mj_go_cold {E : CtlPost} {e : Env} {d : Bool} {acts : List Action} {s : State} {f : JFrame} {a : Addr} {Q : Handler → Pre} {x : ExceptionTableEntry} {t : List ExceptionTableEntry} {c : ClassId} {cell : Cell} {vm' : Vm} (hx : covers x f.pc = true) (h0 : x.catchType ≠ 0)
    (hg : (Jvm.resolveClass f.method.cls x.catchType).Gives e.toSetting s.vm (.ok c) vm') (hsz : vm'.classes.size ≤ s.vm.classes.size) (hcell : s.heap[a]? = some cell) (hobj : ∀ k, cell.vm ≠ .statics k)
    (hk : ∃ k, vm'.classes[cell.cls]? = some k) (hc : ∃ k, vm'.classes[c]? = some k) :
    wp (findHandler.go f a (x :: t)) Q E e d acts s ↔
      if vm'.assignable cell.cls c = true then Q (.found x.handlerPc) d acts (s.setVm vm') else wp (findHandler.go f a t) Q E e d acts (s.setVm vm') := by
  simp only [covers] at hx
  obtain ⟨ha, ht⟩ := hg.op (op := VmOp.resolveClass f.method.cls x.catchType) rfl
  cases hfit : vm'.assignable cell.cls c <;>
    simp [findHandler.go, hx, h0, ha, ht, hsz, hcell, hobj, hk, hc, hfit, VmOp.dirties, VmOp.acts]
/-- what is checked of the handlers -/
def mj_hB (M : mj_M) (cd : List mj_E) : List (Nat × Nat × Nat × Nat) → List (Nat × Nat × Nat × Nat) → List Nat → Bool
  | [], [], _ => true
  | (s, e, t, ci) :: r, (s', e', hp, ct) :: r', w :: ws => decide (s = s' ∧ e = e' ∧ ct ≠ 0 ∧ (ci = 18 ∨ ci = 20 ∨ ci = 21)) && (match cd.drop t with
      | e0 :: _ => decide (e0.1 = hp)
      | [] => false) && (match mj_cl[ci]? with
      | some (C, _, _) => mj_lk w (.classLink (mM_y M).cls ct C)
      | none => false) && mj_hB M cd r r' ws
  | _, _, _ => false
theorem mj_x18 : ∃ T N, mj_cl[18]? = some ("java/lang/IllegalStateException", T, N) := ⟨_, _, rfl⟩
theorem mj_x20 : ∃ T N, mj_cl[20]? = some ("java/lang/IllegalArgumentException", T, N) := ⟨_, _, rfl⟩
theorem mj_x21 : ∃ T N, mj_cl[21]? = some ("java/lang/IndexOutOfBoundsException", T, N) := ⟨_, _, rfl⟩
/-- the three classes are apart -/
theorem mj_asg {G : mj_G} {s : State} {args : Array Value} (hKK : mj_KK G s) (hat : ∀ w ∈ mj_xs, w.before args s = true) {ci cx : Nat} (h1 : ci = 18 ∨ ci = 20 ∨ ci = 21) (h2 : cx = 18 ∨ cx = 20 ∨ cx = 21) : s.vm.assignable ((gD G).1 cx) ((gD G).1 ci) = decide (cx = ci) := by
  obtain ⟨T18, N18, e18⟩ := mj_x18
  obtain ⟨T20, N20, e20⟩ := mj_x20
  obtain ⟨T21, N21, e21⟩ := mj_x21
  have f18 := (hKK.1.1 18 _ e18).2.1
  have f20 := (hKK.1.1 20 _ e20).2.1
  have f21 := (hKK.1.1 21 _ e21).2.1
  have same : ∀ {C : String} {c : ClassId}, s.vm.findClass C = some c → Cond.castable C C ∈ mj_xs → s.vm.assignable c c = true := by
    intro C c hc hm
    obtain ⟨c3, c4, hc3, hc4, hasg⟩ := Cond.castable_spec (hat _ hm)
    cases Option.some.inj (hc3.symm.trans hc)
    cases Option.some.inj (hc4.symm.trans hc)
    exact hasg
  have apart : ∀ {C D : String} {c d : ClassId}, s.vm.findClass C = some c → s.vm.findClass D = some d → Cond.not (.castable C D) ∈ mj_xs → s.vm.assignable c d = false := by
    intro C D c d hc hd hm
    have h := hat _ hm
    simp only [Cond.before, Cond.holds, Cond.value, hc, hd] at h
    simpa using h
  rcases h1 with rfl | rfl | rfl <;> rcases h2 with rfl | rfl | rfl
  · exact same f18 (by simp [mj_xs, mj_xC])
  · exact apart f20 f18 (by simp [mj_xs, mj_xN])
  · exact apart f21 f18 (by simp [mj_xs, mj_xN])
  · exact apart f18 f20 (by simp [mj_xs, mj_xN])
  · exact same f20 (by simp [mj_xs, mj_xC])
  · exact apart f21 f20 (by simp [mj_xs, mj_xN])
  · exact apart f18 f21 (by simp [mj_xs, mj_xN])
  · exact apart f20 f21 (by simp [mj_xs, mj_xN])
  · exact same f21 (by simp [mj_xs, mj_xC])
section CT
variable {p : Program} {e : Env} {R : Room} {s : State} {m : MethodId} {args : Array Value} {below : List Frame} {meth : Method} {c : Code} {G : mj_G} {M : mj_M} {cd : List mj_E} {h : mj_H}
theorem mj_search {go : mj_Wk} {pc x : Nat} {L : mj_Ls} {bu : Nat × Nat} {S : State} {g : JFrame} (hgm : g.method = m) (hpc : g.pc = pc) (hown : s.vm.findClass (mM_y M).cls = some m.cls) (hpl : e.platform.magicAccessors = ({} : Platform).magicAccessors) (hKK : mj_KK G s) (hat : ∀ w ∈ mj_xs, w.before args s = true) (hP : mj_P G h S.heap) :
    ∀ (hs : List (Nat × Nat × Nat × Nat)) (tbl : List ExceptionTableEntry) (ws : List Nat) (vm0 : Vm), s.WarmedH vm0 → mj_hB M cd hs (tbl.map (fun h => (h.startPc, h.endPc, h.handlerPc, h.catchType))) ws = true → mj_exh cd go pc L x h bu hs →
      ∃ (t : Nat) (e0 : mj_E) (r : List mj_E) (vm' : Vm), s.WarmedH vm' ∧ cd.drop t = e0 :: r ∧ go (cd.drop t) L [.ref x] h bu ∧ ∀ (Q : Handler → Pre) (E : CtlPost) (d : Bool) (acts : List Action), wp (findHandler.go g (mj_ad G x) tbl) Q E e d acts (S.setVm vm0) ↔ Q (.found e0.1) d acts (S.setVm vm') := by
  intro hs
  induction hs with
  | nil => intro tbl ws vm0 _ _ hx; exact hx.elim
  | cons y r ih =>
    intro tbl ws vm0 hW hB hx
    obtain ⟨st, en, t, ci⟩ := y
    cases tbl with
    | nil => cases ws <;> simp [mj_hB] at hB
    | cons z tb =>
      cases ws with
      | nil => simp [mj_hB] at hB
      | cons w ws =>
        simp only [List.map_cons, mj_hB, Bool.and_eq_true, decide_eq_true_eq] at hB
        obtain ⟨⟨⟨⟨rfl, rfl, hct, hci⟩, hdr⟩, hcl⟩, hrest⟩ := hB
        unfold mj_exh at hx
        split at hx
        · rename_i hcov
          have hcov' : covers z g.pc = false := by
            have hn := of_decide_eq_false hcov
            rw [hpc]
            refine Bool.eq_false_iff.mpr (fun hh => hn ?_)
            simp only [covers, Bool.and_eq_true, decide_eq_true_eq] at hh
            exact hh
          obtain ⟨t', e0, r', vm', h1, h2, h3, h4⟩ := ih tb ws vm0 hW hrest hx
          refine ⟨t', e0, r', vm', h1, h2, h3, fun Q E d acts => ?_⟩
          rw [W.findHandler_go_skip hcov']
          exact h4 Q E d acts
        · rename_i hcov
          have hcov' : covers z g.pc = true := by
            have := of_decide_eq_true hcov
            rw [hpc]
            simp only [covers]
            simp [this.1, this.2]
          obtain ⟨hkd, hyes, hnot⟩ := hx
          split at hcl
          · rename_i C T N hc
            have hKc := hKK.1.1 ci _ hc
            obtain ⟨cC, hfc, hclk⟩ := Cond.classLink_spec hown (hKK.2.1.use (mj_lk_ok hcl) rfl args) e.platform hpl
            cases Option.some.inj (hfc.symm.trans hKc.2.1)
            rw [← hgm] at hclk
            obtain ⟨hg₁, hW₁, hready₁⟩ := State.classEntry (e := e) hW hclk
            obtain ⟨cx, hcx, hkx⟩ : ∃ cx, (cx = 18 ∨ cx = 20 ∨ cx = 21) ∧ hK h x = 60 + cx := by
              rcases hkd with z | z | z
              · exact ⟨18, Or.inl rfl, z⟩
              · exact ⟨20, Or.inr (Or.inl rfl), z⟩
              · exact ⟨21, Or.inr (Or.inr rfl), z⟩
            obtain ⟨cell, q1, q2, q3⟩ := (hP.2 x).2.2.2.2.2.2.2.1 cx hkx
            have hkC : ∀ cy, (cy = 18 ∨ cy = 20 ∨ cy = 21) → ∃ k, s.vm.classes[(gD G).1 cy]? = some k := by
              intro cy hcy
              obtain ⟨T18, N18, e18⟩ := mj_x18
              obtain ⟨T20, N20, e20⟩ := mj_x20
              obtain ⟨T21, N21, e21⟩ := mj_x21
              rcases hcy with rfl | rfl | rfl
              · exact Vm.classAt_of_findClass (hKK.1.1 18 _ e18).2.1
              · exact Vm.classAt_of_findClass (hKK.1.1 20 _ e20).2.1
              · exact Vm.classAt_of_findClass (hKK.1.1 21 _ e21).2.1
            have hkW : ∀ cy, (cy = 18 ∨ cy = 20 ∨ cy = 21) → ∃ k, (vm0.noted g.method.cls z.catchType (.cls ((gD G).1 ci))).classes[(gD G).1 cy]? = some k := by
              intro cy hcy
              obtain ⟨k, hk⟩ := hkC cy hcy
              obtain ⟨k', hk', -⟩ := hW₁.alike.2.2 _ _ hk
              exact ⟨k', hk'⟩
            have hstep := fun (Q : Handler → Pre) (E : CtlPost) (d : Bool) (acts : List Action) => mj_go_cold (E := E) (e := e) (d := d) (acts := acts) (s := S.setVm vm0) (f := g) (a := mj_ad G x) (Q := Q) (x := z) (t := tb) (c := (gD G).1 ci) (cell := cell) hcov' hct hg₁ (by rw [hW₁.2.1, show (S.setVm vm0).vm = vm0 from rfl, hW.2.1]; exact Nat.le_refl _) q1 (fun k hk => by rw [q3] at hk; cases hk) (by rw [q2]; exact hkW cx hcx) (hkW ci hci)
            have hasg : (vm0.noted g.method.cls z.catchType (.cls ((gD G).1 ci))).assignable cell.cls ((gD G).1 ci) = decide (cx = ci) := by
              rw [hW₁.alike.assignable, q2]
              exact mj_asg hKK hat hci hcx
            by_cases he : cx = ci
            · cases hdrop : cd.drop t with
              | nil => rw [hdrop] at hdr; simp at hdr
              | cons e0 r0 =>
                rw [hdrop] at hdr
                have hp0 : e0.1 = z.handlerPc := by simpa using hdr
                refine ⟨t, e0, r0, _, hW₁, hdrop, hyes (by omega), fun Q E d acts => ?_⟩
                rw [hstep Q E d acts, if_pos (by rw [hasg]; simp [he]), hp0]
                exact Iff.rfl
            · obtain ⟨t', e0, r', vm', h1, h2, h3, h4⟩ := ih tb ws _ hW₁ hrest (hnot (by omega))
              refine ⟨t', e0, r', vm', h1, h2, h3, fun Q E d acts => ?_⟩
              rw [hstep Q E d acts, if_neg (by rw [hasg]; simp [he])]
              exact h4 Q E d acts
          · cases hcl
end CT
theorem mj_stepCatch {e : Env} {s : State} {a : Addr} {f : JFrame} {r : List Frame} {pc : Nat} {vm' : Vm} (hfind : ∀ (Q : Handler → Pre) (E : CtlPost) (d : Bool) (acts : List Action), wp (findHandler f a) Q E e d acts s ↔ Q (.found pc) d acts (s.setVm vm')) :
    (stepThrowing e s a (.java f :: r)).Is ((s.setVm vm').setFrames (.java { f with pc := pc, stack := [.ref a] } :: r)) [] := by
  simp only [stepThrowing, searchFrame, vmDo]
  generalize hr : Sem.go _ e false [] s = res
  obtain ⟨as, rfl, ha⟩ := Sem.eq_ok_of hr (a := Handler.found pc) (s' := s.setVm vm') (acts' := []) (by simp [hfind _ _ _ _])
  exact ⟨rfl, ha⟩
theorem mj_caught {tb : Tables} {e : Env} {s target : State} {g : JFrame} {c : Code} {below : List Frame} {a : Addr} (h : At s g.method c below) {pc : Nat} {vm' : Vm}
    (hfind : ∀ (Q : Handler → Pre) (E : CtlPost) (d : Bool) (acts : List Action), wp (findHandler g a) Q E e d acts ((s.setTop g).pushFrame (.throwing a)) ↔ Q (.found pc) d acts (((s.setTop g).pushFrame (.throwing a)).setVm vm'))
    (hrest : Steps tb e below ((s.setVm vm').setTop { g with pc := pc, stack := [.ref a] }) target) :
    Steps tb e below ((s.setTop g).pushFrame (.throwing a)) target := by
  obtain ⟨hgo, hw⟩ := h.throwing a
  refine Steps.head hgo hw ?_
  rw [stepThread_throwing (frames_entered h.top _), (mj_stepCatch (s := (s.setTop g).pushFrame (.throwing a)) hfind).1]
  obtain ⟨g₀, hg⟩ := Option.isSome_iff_exists.mp h.top
  obtain ⟨r, hr⟩ := State.topJava?_eq_some.mp hg
  have hrv : (s.setVm vm').frames = .java g₀ :: r := hr
  rw [State.setTop_of_frames _ hrv] at hrest
  rw [State.pushFrame, State.setTop_of_frames _ hr, State.setFrames_setFrames, hr]
  show Steps tb e below (((s.setVm vm').setFrames _).setFrames _) target
  rw [State.setFrames_setFrames]
  exact hrest
/-- THE CONTRACT OF A METHOD WITH HANDLERS, by its runs -/
theorem mj_CtH {G : mj_G} {M : mj_M} {X : mj_X} {cd : List mj_E} {mh : List (Nat × Nat × Nat × Nat)} {ws : List (Nat × Nat × Nat)} {wh : List Nat} (hm : mj_mok mh) (ht : mj_tab M X cd mh ws = true) (hB : mj_hB M cd X.2.1 (mM_h M) wh = true) {y : Nat × Nat × Nat × Nat} {yr : List (Nat × Nat × Nat × Nat)} (hX : X.2.1 = y :: yr) {mc ms : Nat} {av : List Value} {h : mj_H} {Q : mj_Q} (hav : (mj_sl av).length ≤ mM_l M) (hrun : ∀ Run : mj_K, mj_closed G X cd Q Run → Run 0 (mj_ini av (mM_l M)) [] h (mc, ms)) : mj_Ct G M mc ms av h Q := by
  obtain ⟨hall, hadj, hrt, hpl, e0, r, hcd, he0⟩ := mj_tab_ok ht
  refine MetFree.of_bodySF (code := mM_b M) (maxLocals := mM_l M) (ret := mM_r M) hpl ?_ ?_
  · intro args s m hpre hn
    have hcw : (mj_cw M).before args s = true := atoms_spec (ws := [mj_cw M]) hpre _ List.mem_cons_self
    obtain ⟨meth, c, h1, h2, h3, h4, h5, h6, -, -⟩ := mj_cw_spec hn hcw
    exact ⟨meth, c, h1, h2, h4, h3, h5, h6⟩
  · intro p e s m args below meth c s₁ B hml hP _
    obtain ⟨rfl, hH, hKK⟩ := hP
    have hcw : (mj_cw M).before (av.map (mj_sh G)).toArray s = true := atoms_spec (ws := [mj_cw M]) B.pre _ List.mem_cons_self
    have X₀ : Stand p (gl G) e (mj_rm M mc ms) s m (av.map (mj_sh G)).toArray below meth c s₁ [] 0 0 := Stand.of_body B
    have htbl : c.exceptionTable.toList.map (fun h => (h.startPc, h.endPc, h.handlerPc, h.catchType)) = mM_h M := by
      unfold mj_cw at hcw
      split at hcw
      · rename_i hnil
        rw [hX, hnil] at hB
        simp [mj_hB] at hB
      · rename_i y' r' hne
        obtain ⟨m9, meth9, c9, hn9, h1, h2, -, -, h7, -⟩ := Cond.codeWith_spec hcw
        cases B.named.symm.trans hn9
        cases B.method.symm.trans h1
        cases X₀.code.symm.trans h2
        rw [hne]
        exact h7
    have hown := findClass_of_methodNamed B.named
    have hF : mj_Fx G M p (mj_rm M mc ms) s m meth c mc ms := ⟨B.exec, B.bytes, hml, hown, hKK, B.notSynchronized, (name_of_methodNamed B.named B.method).1, B.returns, Nat.le_refl _, Nat.le_refl _, Nat.le_refl _, Nat.le_refl _, h, hH⟩
    have hnn : mM_h M ≠ [] := by
      intro hnil
      rw [hX, hnil] at hB
      simp [mj_hB] at hB
    have hcl : mj_closed G X cd Q (mj_AW p e (mj_rm M mc ms) s m (av.map (mj_sh G)).toArray below meth c G M Q mc ms) :=
      mj_wp_ok (e := e) (args := (av.map (mj_sh G)).toArray) (below := below) hF hm hall hadj hrt (fun z => absurd z hnn) (fun z => by rw [hX] at z; cases z) (fun go hgo pc L x h' bu hx => by
        rw [hX] at hx
        intro H locs cells slots ls rest hP1 hL1 hlo hce hsl T hTe XT
        have hmag : e.platform.magicAccessors = ({} : Platform).magicAccessors := by rw [XT.admits.platform]
        have hx2 : mj_exh cd go pc L x h' bu X.2.1 := by rw [hX]; exact hx
        obtain ⟨t, e1, r1, vm', hW', hd1, hg1, hfind⟩ := mj_search (S := (T.setTop (F0 m pc ls rest)).pushFrame (.throwing (mj_ad G x))) (g := F0 m pc ls rest) (args := (av.map (mj_sh G)).toArray) (e := e) rfl rfl hown hmag hKK (hKK.2.2.1.2.use hH.1.2.2 _) (by rw [Stand.throwing_heap, hTe]; exact hP1) X.2.1 c.exceptionTable.toList wh T.vm XT.warmed (by rw [htbl]; exact hB) hx2
        obtain ⟨e2, r2, hd2, hA⟩ := hgo t L [.ref x] h' bu hg1
        rw [hd1] at hd2
        cases hd2
        obtain ⟨tt, a1, b1⟩ := hA H locs cells slots ls hP1 hL1 hlo hce hsl (T.setVm vm') hTe (XT.noted hW')
        refine ⟨tt, ?_, b1⟩
        refine mj_caught (g := F0 m pc ls rest) XT.here (pc := e1.1) (vm' := vm') (fun Q' E d acts => ?_) a1
        rw [W.findHandler_eq (meth := meth) (code := c) (by rw [Stand.throwing_vm]; exact XT.method') XT.code]
        exact hfind Q' E d acts)
    have hA := hrun _ hcl
    have hh0 : s₁.heap = s.heap := by rw [B.state]; rfl
    have K : W p (gl G) e (mj_rm M mc ms) s m (av.map (mj_sh G)).toArray below meth c s₁.heap [] 0 0 (mj_MQ G below Q s mc ms) (entryFrame m (av.map (mj_sh G)).toArray (mM_l M)) := by
      rw [hh0, lg_entry_eq]
      exact hA s.heap [] 0 0 _ hH (mj_entry G av hav) (fun q hq => by cases hq) (by omega) (by omega)
    obtain ⟨t, a1, o, b1, b2, b3, b4⟩ := K s₁ rfl X₀
    exact ⟨t, o, a1, b1, b2, b3, b4⟩
