/-! from wp to contracts -/
def mj_sl : List Value → mj_Ls
  | [] => []
  | .long x :: r => some (.long x) :: none :: mj_sl r
  | .double x :: r => some (.double x) :: none :: mj_sl r
  | v :: r => some v :: mj_sl r
def mj_ini (av : List Value) (n : Nat) : mj_Ls := mj_sl av ++ List.replicate (n - (mj_sl av).length) none
theorem mj_sl_mem (G : mj_G) : ∀ (av : List Value) (i j : Nat) (v : Value), (mj_sl av)[j]? = some (some v) → (i + j, mj_sh G v) ∈ lv_args i (av.map (mj_sh G))
  | [], i, j, v, h => by simp [mj_sl] at h
  | w :: r, i, 0, v, h => by
    have : w = v := by cases w <;> (simp [mj_sl] at h; exact h)
    subst this
    exact List.mem_cons_self
  | w :: r, i, j + 1, v, h => by
    cases hw : w with
    | long x =>
      subst hw
      cases j with
      | zero => simp [mj_sl] at h
      | succ j =>
        have h' : (mj_sl r)[j]? = some (some v) := h
        have h1 := mj_sl_mem G r (i + 2) j v h'
        rw [show i + 2 + j = i + (j + 1 + 1) by omega] at h1
        exact List.mem_cons_of_mem _ h1
    | double x =>
      subst hw
      cases j with
      | zero => simp [mj_sl] at h
      | succ j =>
        have h' : (mj_sl r)[j]? = some (some v) := h
        have h1 := mj_sl_mem G r (i + 2) j v h'
        rw [show i + 2 + j = i + (j + 1 + 1) by omega] at h1
        exact List.mem_cons_of_mem _ h1
    | _ =>
      subst hw
      have h' : (mj_sl r)[j]? = some (some v) := h
      have h1 := mj_sl_mem G r (i + 1) j v h'
      rw [show i + 1 + j = i + (j + 1) by omega] at h1
      exact List.mem_cons_of_mem _ h1
theorem mj_sl_len (G : mj_G) : ∀ (av : List Value), (lg_sl (av.map (mj_sh G))).length = (mj_sl av).length
  | [] => rfl
  | w :: r => by
    have ih := mj_sl_len G r
    have e : lg_sl ((w :: r).map (mj_sh G)) = (if (mj_sh G w).category = 2 then [.val (mj_sh G w), .second] else [.val (mj_sh G w)]) ++ lg_sl (r.map (mj_sh G)) := rfl
    rw [e, List.length_append, ih]
    cases w <;> (simp [mj_sh, Value.category, mj_sl]; try omega)
theorem mj_entry (G : mj_G) (av : List Value) {n : Nat} (hn : (mj_sl av).length ≤ n) : mj_L G ((lg_sl (av.map (mj_sh G)) ++ List.replicate (n - (lg_sl (av.map (mj_sh G))).length) Slot.unset).toArray) n (mj_ini av n) := by
  have h := lv_entry (av.map (mj_sh G)) (n := n) (by rw [mj_sl_len]; exact hn)
  refine ⟨h.1, h.2.1, by simp [mj_ini]; omega, fun i v hi => ?_⟩
  unfold mj_ini at hi
  by_cases hl : i < (mj_sl av).length
  · rw [List.getElem?_append_left hl] at hi
    have h1 := mj_sl_mem G av 0 i v hi
    rw [Nat.zero_add] at h1
    exact h.2.2 _ h1
  · rw [List.getElem?_append_right (by omega)] at hi
    have := List.mem_of_getElem? hi
    simp at this
/-- a method's table is right: the entries, their order, the returns, the words -/
def mj_tab (M : mj_M) (X : mj_X) (cd : List mj_E) (mh : List (Nat × Nat × Nat × Nat)) (ws : List (Nat × Nat × Nat)) : Bool :=
  (cd.length == ws.length) && (cd.zip ws).all (fun q => mj_okB M X cd mh q.1 q.2) && mj_adj cd && mj_rtB X M && plainFor (mM_y M) && (match cd with
  | e :: _ => e.1 == 0
  | [] => false)
theorem mj_tab_ok {M : mj_M} {X : mj_X} {cd : List mj_E} {mh : List (Nat × Nat × Nat × Nat)} {ws : List (Nat × Nat × Nat)} (h : mj_tab M X cd mh ws = true) : (∀ e ∈ cd, ∃ w, mj_okB M X cd mh e w = true) ∧ mj_adj cd = true ∧ mj_rtB X M = true ∧ plainFor (mM_y M) = true ∧ ∃ e r, cd = e :: r ∧ e.1 = 0 := by
  simp only [mj_tab, Bool.and_eq_true, beq_iff_eq, List.all_eq_true] at h
  obtain ⟨⟨⟨⟨⟨h1, h2⟩, h3⟩, h4⟩, h5⟩, h6⟩ := h
  refine ⟨fun e he => ?_, h3, h4, h5, ?_⟩
  · obtain ⟨k, hk, rfl⟩ := List.mem_iff_getElem.mp he
    have hk2 : k < ws.length := by omega
    exact ⟨ws[k], h2 (cd[k], ws[k]) (List.mem_iff_getElem.mpr ⟨k, by simp; omega, by simp⟩)⟩
  · cases cd with
    | nil => cases h6
    | cons e r => exact ⟨e, r, rfl, by simpa using h6⟩
section RN
variable {p : Program} {e : Env} {R : Room} {s : State} {m : MethodId} {args : Array Value} {below : List Frame} {meth : Method} {c : Code} {G : mj_G} {M : mj_M} {X : mj_X} {cd : List mj_E} {Q : mj_Q} {mc ms : Nat} {mh : List (Nat × Nat × Nat × Nat)}
theorem mj_wp_ok (hF : mj_Fx G M p R s m meth c mc ms) (hm : mj_mok mh) (hall : ∀ e ∈ cd, ∃ w, mj_okB M X cd mh e w = true) (hadj : mj_adj cd = true) (hrt : mj_rtB X M = true) (hno : mM_h M = [] → c.exceptionTable.isEmpty = true) (hXh : X.2.1 = [] → mM_h M = [])
    (hexc : ∀ go : mj_Wk, (∀ k L st h bu, go (cd.drop k) L st h bu → ∃ e0 r, cd.drop k = e0 :: r ∧ mj_AW p e R s m args below meth c G M Q mc ms e0.1 L st h bu) → ∀ pc L x h bu, mj_exc cd go Q pc L x h bu X.2.1 → mj_AX p e R s m args below meth c G M Q mc ms pc L x h bu) :
    ∀ (n k : Nat) (e0 : mj_E) (r : List mj_E) (L : mj_Ls) (st : List Value) (h : mj_H) (bu : Nat × Nat), cd.drop k = e0 :: r → mj_wp G X cd (mj_AW p e R s m args below meth c G M Q mc ms) Q n (e0 :: r) L st h bu → mj_AW p e R s m args below meth c G M Q mc ms e0.1 L st h bu := by
  intro n
  induction n with
  | zero => intro k e0 r L st h bu hk hw; exact hw.elim
  | succ n ih =>
    intro k e0 r L st h bu hk hw
    have hgo : ∀ k L st h bu, mj_go (mj_AW p e R s m args below meth c G M Q mc ms) (mj_wp G X cd (mj_AW p e R s m args below meth c G M Q mc ms) Q n) (cd.drop k) L st h bu → ∃ e0 r, cd.drop k = e0 :: r ∧ mj_AW p e R s m args below meth c G M Q mc ms e0.1 L st h bu := by
      intro k L st h bu hg
      cases hc : cd.drop k with
      | nil =>
        rw [hc] at hg
        exact hg.elim
      | cons e1 r1 =>
        rw [hc] at hg
        refine ⟨e1, r1, rfl, ?_⟩
        unfold mj_go at hg
        simp only at hg
        split at hg
        · exact hg
        · exact ih k e1 r1 L st h bu hc hg
    have hin : e0 ∈ cd := List.mem_of_mem_drop (by rw [hk]; exact List.mem_cons_self)
    obtain ⟨w, hok⟩ := hall e0 hin
    have hok2 : ∀ e1 r', r = e1 :: r' → ∃ w', mj_okB M X cd mh e1 w' = true := by
      intro e1 r' he
      exact hall e1 (List.mem_of_mem_drop (i := k) (by rw [hk, he]; exact List.mem_cons_of_mem _ List.mem_cons_self))
    exact mj_step_ok hF hm hrt hno hXh hgo (hexc _ hgo) hk hadj hok hok2 hw
end RN
/-- the runs that a user reasons with -/
def mj_closed (G : mj_G) (X : mj_X) (cd : List mj_E) (Q : mj_Q) (Run : mj_K) : Prop := ∀ (n k : Nat) (e0 : mj_E) (r : List mj_E) (L : mj_Ls) (st : List Value) (h : mj_H) (bu : Nat × Nat), cd.drop k = e0 :: r → mj_wp G X cd Run Q n (e0 :: r) L st h bu → Run e0.1 L st h bu
/-- THE CONTRACT OF A METHOD WITHOUT HANDLERS, by its runs -/
theorem mj_Ct_of {G : mj_G} {M : mj_M} {X : mj_X} {cd : List mj_E} {mh : List (Nat × Nat × Nat × Nat)} {ws : List (Nat × Nat × Nat)} (hm : mj_mok mh) (ht : mj_tab M X cd mh ws = true) (hX : X.2.1 = []) (hM : mM_h M = []) {mc ms : Nat} {av : List Value} {h : mj_H} {Q : mj_Q} (hav : (mj_sl av).length ≤ mM_l M) (hrun : ∀ Run : mj_K, mj_closed G X cd Q Run → Run 0 (mj_ini av (mM_l M)) [] h (mc, ms)) : mj_Ct G M mc ms av h Q := by
  obtain ⟨hall, hadj, hrt, hpl, e0, r, hcd, he0⟩ := mj_tab_ok ht
  refine MetFree.of_bodySF (code := mM_b M) (maxLocals := mM_l M) (ret := mM_r M) hpl ?_ ?_
  · intro args s m hpre hn
    have hcw : (mj_cw M).before args s = true := atoms_spec (ws := [mj_cw M]) hpre _ List.mem_cons_self
    obtain ⟨meth, c, h1, h2, h3, h4, h5, h6, -, -⟩ := mj_cw_spec hn hcw
    exact ⟨meth, c, h1, h2, h4, h3, h5, h6⟩
  · intro p e s m args below meth c s₁ B hml hP _
    obtain ⟨rfl, hH, hKK⟩ := hP
    have hcw : (mj_cw M).before (av.map (mj_sh G)).toArray s = true := atoms_spec (ws := [mj_cw M]) B.pre _ List.mem_cons_self
    obtain ⟨meth', c', h1, h2, h3, h4, h5, h6, -, h8⟩ := mj_cw_spec B.named hcw
    cases B.method.symm.trans h1
    have X₀ : Stand p (gl G) e (mj_rm M mc ms) s m (av.map (mj_sh G)).toArray below meth c s₁ [] 0 0 := Stand.of_body B
    cases X₀.code.symm.trans h2
    have hF : mj_Fx G M p (mj_rm M mc ms) s m meth c mc ms := ⟨B.exec, B.bytes, hml, findClass_of_methodNamed B.named, hKK, B.notSynchronized, (name_of_methodNamed B.named B.method).1, B.returns, Nat.le_refl _, Nat.le_refl _, Nat.le_refl _, Nat.le_refl _, h, hH⟩
    have hcl : mj_closed G X cd Q (mj_AW p e (mj_rm M mc ms) s m (av.map (mj_sh G)).toArray below meth c G M Q mc ms) :=
      mj_wp_ok (e := e) (args := (av.map (mj_sh G)).toArray) (below := below) hF hm hall hadj hrt h8 (fun _ => hM) (fun go hgo pc L x h bu hx => by
        rw [hX] at hx
        intro H locs cells slots ls rest hP1 hL1 hlo hce hsl
        exact mj_leave B.notSynchronized hKK hP1 hlo (by omega) (by omega) (h8 hM) hx)
    have hA := hrun _ hcl
    have hh0 : s₁.heap = s.heap := by rw [B.state]; rfl
    have K : W p (gl G) e (mj_rm M mc ms) s m (av.map (mj_sh G)).toArray below meth c s₁.heap [] 0 0 (mj_MQ G below Q s mc ms) (entryFrame m (av.map (mj_sh G)).toArray (mM_l M)) := by
      rw [hh0, lg_entry_eq]
      exact hA s.heap [] 0 0 _ hH (mj_entry G av hav) (fun q hq => by cases hq) (by omega) (by omega)
    obtain ⟨t, a1, o, b1, b2, b3, b4⟩ := K s₁ rfl X₀
    exact ⟨t, o, a1, b1, b2, b3, b4⟩
