/-! the claim out of the law's run in the mini machine (frame of the kit's SKELETON.whole, turned to it) -/
def lw_P (b : Addr) (xs : List Int32) (args : Array Value) (s : State) : Prop := args = #[.ref b] ∧ s.IntsAt b xs ∧ xs.length ≤ 2048 ∧ (Jvm.Cond.and given_1 narrow_1).before args s = true
def lw_Q (_ : Array Value) (s : State) (o : Outcome) (t : State) : Prop := o = .returned (some (.int 1)) ∧ Framed s o t [] 601024 7293034
theorem mj_xs_in : mj_xs.all (fun w => decide (w ∈ lw_tbl) || decide (w ∈ flatC (Jvm.Cond.and given_1 narrow_1))) = true := by decide +kernel
/-- the law's run, in the mini machine -/
def lawRuns : Prop := ∀ (G : mj_G), gL G ≤ 2048 → ∀ Run : mj_K, mj_closed G cx_law cd_law (fun o _ => o = .returned (some (.int (jI 1)))) Run → Run 0 (mj_ini [.ref 0] 7) [] (h00 (gL G) (gx G)) (601024, 7293034)
set_option maxHeartbeats 4000000 in
theorem law_walk (HL : lawRuns) (l : Launch) (hfl : l.flags = flags0) (b : Addr) (xs : List Int32) : MetFree l x (headSpec (Jvm.Cond.code x code maxLocals ret :: tables_1) room_1) (lw_P b xs) (fun _ _ _ _ _ => True) lw_Q := by
  have hall := law_hall
  have hadj := law_adj
  have hrt := law_rt
  refine MetFree.of_bodyS (code := code) (maxLocals := maxLocals) (ret := ret) (by decide) ?_ ?_
  · intro args s m h hn
    obtain ⟨meth, c, h1, h2, h3, h4, h5, h6, -, -⟩ := Cond.code_spec hn (atoms_spec (ws := Jvm.Cond.code x code maxLocals ret :: tables_1) h _ List.mem_cons_self)
    exact ⟨meth, c, h1, h2, h3, h4, h5, h6⟩
  · intro p e s m args below meth c s₁ B hml0 hP _
    obtain ⟨rfl, hx, hbd, hgv⟩ := hP
    obtain ⟨scr, harrAt, hlist, hof, hsmall⟩ := hx
    obtain ⟨hcb, hkn, -, -⟩ := State.arrayAt?_spec harrAt
    have hown : s.vm.findClass "FormHouseLaw" = some m.cls := findClass_of_methodNamed B.named
    have hts0 : ∀ c ∈ (Jvm.Cond.code x code maxLocals ret :: tables_1), c.before #[Value.ref b] s = true := atoms_spec (ws := Jvm.Cond.code x code maxLocals ret :: tables_1) B.pre
    have hts : ∀ w ∈ lw_tbl, w.before #[Value.ref b] s = true := k2_hts_sels lw_privs (fun w hw => hts0 w (List.mem_cons_of_mem _ hw)) lw_privs_ok
    have hml : c.maxLocals = 7 := B.maxLocals_eq (hts0 _ List.mem_cons_self)
    have X₀ : Stand p l e room_1 s m #[Value.ref b] below meth c s₁ [] 0 0 := Stand.of_body B
    have hh0 : s₁.heap = s.heap := by rw [B.state]; rfl
    have hsz : scr.slots.size = xs.length := by rw [← Array.length_toList, hlist, List.length_map]
    have hval : ∀ j : Nat, j < xs.length → scr.slots[j]? = some (.int (xs.getD j 0)) := fun j hj => by
      rw [← Array.getElem?_toList, hlist]
      simp [hj]
    have hbl : b < s.heap.size := (Array.getElem?_eq_some_iff.mp hcb).1
    have hX : va_X b xs.length (fun j => xs.getD j 0) s s.heap := ⟨scr, hcb, hof, hkn, hsz, hval⟩
    have hxs : ∀ w ∈ mj_xs, w.before #[] s = true := by
      intro w hw
      have h4 := List.all_eq_true.mp mj_xs_in w hw
      rw [Bool.or_eq_true, decide_eq_true_eq, decide_eq_true_eq] at h4
      have hA : w.before #[Value.ref b] s = true := by
        rcases h4 with h4 | h4
        · exact hts w h4
        · exact flat_of_before _ hgv w h4
      by_cases ho : w.onTables = true
      · exact va_tabs ho rfl hA
      · have hc : (w = .laysStatic Bundle.tN "UNASSIGNED_STACK" Bundle.steD ∨ w = .laysStatic Bundle.tN "SUPPRESSED_SENTINEL" Bundle.listD) ∨ (w = .isRef (.static Bundle.tN "UNASSIGNED_STACK" Bundle.steD) ∨ w = .isRef (.static Bundle.tN "SUPPRESSED_SENTINEL" Bundle.listD)) ∨ ∃ a b, w = .not (.castable a b) := by
          have hall : mj_xs.all (fun w => w.onTables || (decide (w = .laysStatic Bundle.tN "UNASSIGNED_STACK" Bundle.steD) || decide (w = .laysStatic Bundle.tN "SUPPRESSED_SENTINEL" Bundle.listD) || decide (w = .isRef (.static Bundle.tN "UNASSIGNED_STACK" Bundle.steD)) || decide (w = .isRef (.static Bundle.tN "SUPPRESSED_SENTINEL" Bundle.listD)) || (match w with
            | .not (.castable _ _) => true
            | _ => false))) = true := by decide +kernel
          have h4 := List.all_eq_true.mp hall w hw
          rw [Bool.or_eq_true] at h4
          rcases h4 with h4 | h4
          · exact absurd h4 ho
          · simp only [Bool.or_eq_true, decide_eq_true_eq] at h4
            rcases h4 with (((h4 | h4) | h4) | h4) | h4
            · exact Or.inl (Or.inl h4)
            · exact Or.inl (Or.inr h4)
            · exact Or.inr (Or.inl (Or.inl h4))
            · exact Or.inr (Or.inl (Or.inr h4))
            · refine Or.inr (Or.inr ?_)
              split at h4
              · exact ⟨_, _, rfl⟩
              · cases h4
        rcases hc with (rfl | rfl) | (rfl | rfl) | ⟨a, b', rfl⟩
        · exact hA
        · exact hA
        · exact hA
        · exact hA
        · exact hA
    obtain ⟨G, g1, g2, g3, g4, g5, g6, hKK, hH⟩ := mj_entryK l hfl hts hxs hX hbl
    have hsh : ([Value.ref 0] : List Value).map (mj_sh G) = [Value.ref b] := by
      show [Value.ref (mj_ad G 0)] = _
      unfold mj_ad
      rw [if_pos rfl, g1]
    have hh00 : h00 xs.length (fun j => xs.getD j 0) = h00 (gL G) (gx G) := by rw [g4, g5]
    rw [hh00] at hH
    subst g3
    have hcw : (mj_cw mM_law).before #[Value.ref b] s = true := hts0 _ List.mem_cons_self
    obtain ⟨meth', c', h1, h2, h3, h4, h5, h6, -, h8⟩ := mj_cw_spec (M := mM_law) B.named hcw
    cases B.method.symm.trans h1
    cases X₀.code.symm.trans h2
    have hF : mj_Fx G mM_law p room_1 s m meth c 601024 7293034 := ⟨B.exec, B.bytes, hml, hown, hKK, B.notSynchronized, (name_of_methodNamed B.named B.method).1, B.returns, Nat.le_refl _, Nat.le_refl _, Nat.le_refl _, Nat.le_refl _, _, hH⟩
    have hcl : mj_closed G cx_law cd_law (fun o _ => o = .returned (some (.int (jI 1)))) (mj_AW p e room_1 s m #[Value.ref b] below meth c G mM_law (fun o _ => o = .returned (some (.int (jI 1)))) 601024 7293034) :=
      mj_wp_ok (e := e) (args := #[Value.ref b]) (below := below) hF mj_ok hall hadj hrt h8 (fun _ => rfl) (fun go hgo pc L x h bu hx => by
        intro H locs cells slots ls rest hP1 hL1 hlo hce hsl
        exact mj_leave B.notSynchronized hKK hP1 hlo (by omega) (by omega) (h8 rfl) hx)
    have hA := HL G (by rw [g4]; exact hbd) _ hcl
    have K : W p (gl G) e room_1 s m #[Value.ref b] below meth c s₁.heap [] 0 0 (mj_MQ G below (fun o _ => o = .returned (some (.int (jI 1)))) s 601024 7293034) (entryFrame m ([Value.ref b] : List Value).toArray 7) := by
      have he := mj_entry G [Value.ref 0] (n := 7) (by decide)
      rw [hsh] at he
      rw [hh0, lg_entry_eq]
      exact hA s.heap [] 0 0 _ hH he (fun q hq => by cases hq) (by omega) (by omega)
    obtain ⟨t, a1, o, b1, b2, ⟨o', h', e1, e2, -, -⟩, L, ⟨f1, f2⟩, f3⟩ := K s₁ rfl X₀
    have eo : o = .returned (some (.int 1)) := by
      rw [e1, e2]
      rfl
    refine ⟨t, o, a1, b1, b2, eo, ⟨_, eo⟩, f1, ?_⟩
    obtain ⟨k1, k2, k3, k4, k5, k6⟩ := f2
    refine ⟨k1, k2, k3, k4, k5, fun a c0 ha => ?_⟩
    obtain ⟨c1, q1, q2, q3, q4⟩ := k6 a c0 ha
    refine ⟨c1, q1, q2, q3, fun i _ => q4 i (fun hm => ?_)⟩
    have h9 := f3 _ hm
    have h10 := (Array.getElem?_eq_some_iff.mp ha).1
    have h11 : gN G < a := h9
    omega
theorem lw_pre_spec {args : Array Value} {s : State} (h : (Jvm.Cond.and given_1 narrow_1).before args s = true) (hr : rest_1_c.before args s = true) : ∃ (b : Addr) (xs : List Int32), lw_P b xs args s := by
  have hs := flat_of_before _ h
  have hq := flat_of_before _ hr
  have hc : (Cond.count 1).before args s = true := hs _ (by decide +kernel)
  have harr : (Cond.arrayOf (.arg 0) .int).before args s = true := hs _ (by decide +kernel)
  have hle : (Cond.le (.length (.arg 0)) (.int 2048)).before args s = true := hs _ (by decide +kernel)
  have hlen : (Cond.isInt (.length (.arg 0))).before args s = true := hq _ (by decide +kernel)
  have hall : (Cond.all (.arg 0) (.isInt (.elem (.arg 0) (.index 0)))).before args s = true := hq _ (by decide +kernel)
  obtain ⟨b, xs, hb, hx⟩ := State.ints_of_pre rfl harr hlen hall
  have hsm : xs.length < 2 ^ 31 := hx.choose_spec.2.2.2
  have hev : (Term.length (.arg 0)).eval args s none [] s = some (.int xs.length.toInt32) := hx.length_eval hb
  have hv := Cond.le_ints hev (show (Term.int 2048).eval args s none [] s = some (.int 2048) from rfl)
  have hd : xs.length.toInt32 ≤ 2048 := by
    simpa [Cond.before, Cond.holds, hv] using hle
  have hN : xs.length ≤ 2048 := (Int32.ofNat_le_ofNat hsm (by decide)).mp (show Int32.ofNat xs.length ≤ Int32.ofNat 2048 from hd)
  exact ⟨b, xs, Cond.one_arg hc (show args[0]? = some (.ref b) from hb), hx, hN, h⟩
theorem lw_comes (HL : lawRuns) (l : Launch) (hfl : l.flags = flags0) : Comes l x (Jvm.Cond.code x code maxLocals ret :: tables_1) room_1 (fun tb e args s => Calls_1 tb e args s ∧ rest_1 tb e args s ∧ Pre_1 tb e args s)
    (fun _ _ args s o t => lw_Q args s o t) := by
  intro p e ha hc hk s m args below hf hfit hheap happ hpre
  obtain ⟨b, xs, hP⟩ := lw_pre_spec hpre.2.2 hpre.2.1
  obtain ⟨k, o, h1, h2, h3, hQ⟩ := law_walk HL l hfl b xs p e ha hc hk s m args below hf ((Spec.applies_iff_loose hf).mp happ).1 hP trivial
  exact ⟨k, o, h1, h2, h3, hQ⟩
theorem lw_frame {s t : State} {o : Outcome} {args : Array Value} (h : Framed s o t [] 601024 7293034) :
    Framed s o t (fieldLocs frame_1_writes args s ++ arrayLocs frame_1_arrays args s ++ staticLocs frame_1_statics s) 601024 7293034 := h
theorem lw_limb (HL : lawRuns) (L : Cond) (hL : ∀ (args : Array Value) (s t : State), L.after args s (.returned (some (.int 1))) t = true) :
    ArmFor flags0 classFile x code maxLocals ret World_1 tables_1 room_1 Calls_1 rest_1 Pre_1
      (fun tb e a s o t => postC L tb e a s o t ∧ Framed s o t (fieldLocs frame_1_writes a s ++ arrayLocs frame_1_arrays a s ++ staticLocs frame_1_statics s) 601024 7293034) := by
  intro l q1 q2 q3 p e ha hc hk s m args below hf hfit hheap happ hpre
  obtain ⟨k, o, h1, h2, h3, rfl, hF⟩ := lw_comes HL l (by first | exact q1 | exact q2 | exact q3) p e ha hc hk s m args below hf hfit hheap happ hpre
  exact ⟨k, _, h1, h2, h3, hL args s _, lw_frame hF⟩
theorem i_vc_of (HL : lawRuns) : Claimed_1_1 ∧ Claimed_1_2 := ⟨lw_limb HL limb_1_1 (fun args s t => by simp [limb_1_1, Cond.after, Cond.holds, Cond.value]), lw_limb HL limb_1_2 (fun args s t => Cond.after_iff.mpr (by
  first | (rw [show limb_1_2 = Cond.eq .result (.int 1) from rfl, Cond.eq_ints (x := 1) (y := 1) rfl rfl]; simp; done) | (simp [limb_1_2, Cond.value, Term.eval]; done)))⟩
