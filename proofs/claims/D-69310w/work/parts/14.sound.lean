/-! THE SOUNDNESS THEOREM -/
theorem mj_sys : Cond.initialized "java/lang/System" ∈ lw_tbl := mj_at_mem (w := 1024) (by decide +kernel)
def mj_hs0 : Nat × Nat × Nat × Nat := (0, 0, 0, 0)
/-- all methods' words stand in the tables -/
def mj_mok (mh : List (Nat × Nat × Nat × Nat)) : Prop := ∀ j, (j < 287 ∧ j ≠ 1 ∧ j ≠ 35) → mj_cw (mj_mt j) ∈ lw_tbl ∧ mj_MB (mj_mt j) (mh.getD j mj_hs0) = true
def mj_Fx (G : mj_G) (M : mj_M) (p : Program) (R : Room) (s : State) (m : MethodId) (meth : Method) (c : Code) (mc ms : Nat) : Prop :=
  p.tables.exec = Jvm.exec ∧ c.code = mM_b M ∧ c.maxLocals = mM_l M ∧ s.vm.findClass (mM_y M).cls = some m.cls ∧ mj_KK G s ∧ meth.locks = false ∧ meth.name = (mM_y M).name ∧ meth.sig.returnType = mM_r M ∧ mM_f M ≤ R.frames ∧ mM_w M ≤ R.locals ∧ mc ≤ R.cells ∧ ms ≤ R.slots ∧ ∃ h0, mj_P G h0 s.heap
def mj_rtB (X : mj_X) (M : mj_M) : Bool := match X.1 with
  | 0 => decide (mM_r M = none)
  | 1 => decide (mM_r M = some .int)
  | 2 => decide (mM_r M = some .long)
  | 3 => match mM_r M with
    | some (.object _) => true
    | _ => false
  | 4 => decide (mM_r M = some .boolean)
  | _ => false
section SD
variable {p : Program} {e : Env} {R : Room} {s : State} {m : MethodId} {args : Array Value} {below : List Frame} {meth : Method} {c : Code} {G : mj_G} {M : mj_M} {X : mj_X} {cd : List mj_E} {Q : mj_Q} {mc ms : Nat} {mh : List (Nat × Nat × Nat × Nat)}
def mj_AW (p : Program) (e : Env) (R : Room) (s : State) (m : MethodId) (args : Array Value) (below : List Frame) (meth : Method) (c : Code) (G : mj_G) (M : mj_M) (Q : mj_Q) (mc ms : Nat) : mj_K := fun pc L st h bu =>
  ∀ (H : Heap) (locs : List Loc) (cells slots : Nat) (ls : Array Slot), mj_P G h H → mj_L G ls (mM_l M) L → (∀ q ∈ locs, gN G < q.base) → cells + bu.1 ≤ mc → slots + bu.2 ≤ ms → W p (gl G) e R s m args below meth c H locs cells slots (mj_MQ G below Q s mc ms) (F0 m pc ls (st.map (mj_sh G)))
/-- the same, with an exception on its way -/
def mj_AX (p : Program) (e : Env) (R : Room) (s : State) (m : MethodId) (args : Array Value) (below : List Frame) (meth : Method) (c : Code) (G : mj_G) (M : mj_M) (Q : mj_Q) (mc ms : Nat) (pc : Nat) (L : mj_Ls) (x : Nat) (h : mj_H) (bu : Nat × Nat) : Prop :=
  ∀ (H : Heap) (locs : List Loc) (cells slots : Nat) (ls : Array Slot) (rest : List Value), mj_P G h H → mj_L G ls (mM_l M) L → (∀ q ∈ locs, gN G < q.base) → cells + bu.1 ≤ mc → slots + bu.2 ≤ ms → mj_Wx p (gl G) e R s m args below meth c H locs cells slots (mj_MQ G below Q s mc ms) (F0 m pc ls rest) (mj_ad G x)
theorem mj_take_rev (st : List Value) (b : Nat) (G : mj_G) : st.map (mj_sh G) = (((st.take b).reverse).map (mj_sh G)).reverse ++ (st.drop b).map (mj_sh G) := by
  rw [← List.map_reverse, List.reverse_reverse, ← List.map_append, List.take_append_drop]
theorem mj_wt_sh {G : mj_G} {st : List Value} (h : mj_wt st = true) : mj_wt (st.map (mj_sh G)) = true := by
  unfold mj_wt at h ⊢
  rw [List.map_map]
  have : ((fun v : Value => v.category) ∘ mj_sh G) = fun v => v.category := by
    funext v
    exact mj_sh_cat G v
  rw [this]
  exact h
theorem mj_ev_I {h : mj_H} {T : u_T} {a k : Nat} {v : Int32} (hk : mj_tc (T k).2.2.1 = 0) (j : Nat) : mj_sh G (mj_fv (sI h a k v) a j (mj_tc (T j).2.2.1)) = updV (fun j => mj_sh G (mj_fv h a j (mj_tc (T j).2.2.1))) k (.int v) j := by
  by_cases hj : j = k
  · subst hj
    simp [updV, mj_fv, hk, sI, mj_up, hI, mj_sh]
  · simp [updV, hj, mj_fv, sI, mj_up, hI, hJ, hR]
theorem mj_ev_J {h : mj_H} {T : u_T} {a k : Nat} {v : Int64} (hk : mj_tc (T k).2.2.1 = 1) (j : Nat) : mj_sh G (mj_fv (sJ h a k v) a j (mj_tc (T j).2.2.1)) = updV (fun j => mj_sh G (mj_fv h a j (mj_tc (T j).2.2.1))) k (.long v) j := by
  by_cases hj : j = k
  · subst hj
    simp [updV, mj_fv, hk, sJ, mj_up, hJ, mj_sh]
  · simp [updV, hj, mj_fv, sJ, mj_up, hI, hJ, hR]
theorem mj_ev_R {h : mj_H} {T : u_T} {a k v : Nat} (hk : mj_tc (T k).2.2.1 = 2) (j : Nat) : mj_sh G (mj_fv (sR h a k (some v)) a j (mj_tc (T j).2.2.1)) = updV (fun j => mj_sh G (mj_fv h a j (mj_tc (T j).2.2.1))) k (.ref (mj_ad G v)) j := by
  by_cases hj : j = k
  · subst hj
    simp [updV, mj_fv, hk, sR, mj_up, hR, mj_sh, va_rf]
  · simp [updV, hj, mj_fv, sR, mj_up, hI, hJ, hR]
theorem mj_after {go : mj_Wk} {nx : List mj_E} {pc : Nat} {L : mj_Ls} {rest : List Value} (hnext : ∀ {L st h bu}, go nx L st h bu → mj_AW p e R s m args below meth c G M Q mc ms (pc + 3) L st h bu) (hexc : ∀ pc L x h bu, mj_exc cd go Q pc L x h bu X.2.1 → mj_AX p e R s m args below meth c G M Q mc ms pc L x h bu)
    {o : Outcome} {h' : mj_H} {bu : Nat × Nat} (hk : mj_aft cd X.2.1 go Q pc nx L rest o h' bu) {H1 : Heap} {l1 : List Loc} {cells slots : Nat} {ls : Array Slot} (hP : mj_P G h' H1) (hL : mj_L G ls (mM_l M) L) (hlo : ∀ q ∈ l1, gN G < q.base) (hce : cells + bu.1 ≤ mc) (hsl : slots + bu.2 ≤ ms) : mj_Wo p G e R s m args below meth c H1 l1 cells slots (mj_MQ G below Q s mc ms) pc ls (rest.map (mj_sh G)) o := by
  cases o with
  | returned v =>
    cases v with
    | none => exact hnext hk H1 l1 cells slots ls hP hL hlo hce hsl
    | some v => exact hnext hk H1 l1 cells slots ls hP hL hlo hce hsl
  | threw x => exact hexc pc L x h' bu hk H1 l1 cells slots ls _ hP hL hlo hce hsl
set_option maxHeartbeats 4000000 in
theorem mj_step_ok (hF : mj_Fx G M p R s m meth c mc ms) (hm : mj_mok mh) (hrt : mj_rtB X M = true) (hno : mM_h M = [] → c.exceptionTable.isEmpty = true) (hXh : X.2.1 = [] → mM_h M = []) {go : mj_Wk}
    (hgo : ∀ k L st h bu, go (cd.drop k) L st h bu → ∃ e0 r, cd.drop k = e0 :: r ∧ mj_AW p e R s m args below meth c G M Q mc ms e0.1 L st h bu)
    (hexc : ∀ pc L x h bu, mj_exc cd go Q pc L x h bu X.2.1 → mj_AX p e R s m args below meth c G M Q mc ms pc L x h bu)
    {k : Nat} {e0 : mj_E} {nx : List mj_E} (hk : cd.drop k = e0 :: nx) (hadj : mj_adj cd = true) {w : Nat × Nat × Nat} (hok : mj_okB M X cd mh e0 w = true) (hok2 : ∀ e1 r, nx = e1 :: r → ∃ w', mj_okB M X cd mh e1 w' = true) {L : mj_Ls} {st : List Value} {h : mj_H} {bu : Nat × Nat} (hw : mj_step G X cd go Q e0 nx L st h bu) : mj_AW p e R s m args below meth c G M Q mc ms e0.1 L st h bu := by
  obtain ⟨hx, hb, hml, hown, hKK, hlk, hnm, hret, hfrR, hloR, hmcR, hmsR, hF0⟩ := hF
  have hnx : nx = cd.drop (k + 1) := by rw [← List.drop_drop, hk]; rfl
  have hnext : ∀ {L st h bu}, go nx L st h bu → mj_AW p e R s m args below meth c G M Q mc ms (e0.1 + e0.2.2.2.1) L st h bu := by
    intro L st h bu hg
    rw [hnx] at hg
    obtain ⟨e1, r, he, ha⟩ := hgo (k + 1) L st h bu hg
    have h1 := mj_adj_drop cd k hadj
    rw [hk, hnx, he] at h1
    simp only [mj_adj, Bool.and_eq_true, decide_eq_true_eq] at h1
    rw [← h1.1]
    exact ha
  have hjump : ∀ {j : Nat} {off : Int} {L st h bu}, mj_tg cd e0.1 off j = true → go (cd.drop j) L st h bu → ∃ tgt : Nat, (e0.1 : Int) + off = (tgt : Int) ∧ mj_AW p e R s m args below meth c G M Q mc ms tgt L st h bu := by
    intro j off L st h bu ht hg
    obtain ⟨e1, r, he, hp⟩ := mj_tg_ok ht
    obtain ⟨e2, r2, he2, ha⟩ := hgo j L st h bu hg
    rw [he] at he2
    cases he2
    exact ⟨e1.1, hp, ha⟩
  obtain ⟨pc, ct, i, len, a, b, c3, cI, cJ⟩ := e0
  simp only at hnext hjump ⊢
  unfold mj_okB at hok
  simp only [Bool.and_eq_true] at hok
  obtain ⟨hdec0, hok⟩ := hok
  have hdec : decode (mM_b M) pc = .ok (i, len) := of_decide_eq_true hdec0
  clear hdec0
  unfold mj_step at hw
  simp only at hw
  intro H locs cells slots ls hP hL hlo hce hsl
  split at hw
  · rename_i st' ha
    have hl : len = mj_len i ∧ mj_okc (mM_y M).cls i cI cJ := by
      unfold mj_alu at ha
      split at ha <;> first
        | (simp only [Bool.and_eq_true, decide_eq_true_eq] at hok; exact ⟨hok.1, hok.2⟩)
        | (simp only [Bool.and_eq_true, decide_eq_true_eq] at hok; exact ⟨hok.1, mj_lk_ok hok.2⟩)
        | (exact ⟨of_decide_eq_true hok, trivial⟩)
        | (cases ha)
    obtain ⟨rfl, hc⟩ := hl
    exact mj_alu_ok hx hb hown hKK.2.1 ha hc hdec (hnext hw H locs cells slots ls hP hL hlo hce hsl)
  · rename_i hA
    clear hA
    split at hw
    · rename_i L' st' ha
      have hl : len = mj_len i ∧ mj_okc (mM_y M).cls i cI cJ ∧ ∀ j, (i = .istore j ∨ i = .astore j ∨ (∃ q : Fin 4, (q : Nat) = j ∧ (i = .istore_n q ∨ i = .astore_n q)) → j < mM_l M) ∧ (i = .lstore j ∨ (∃ q : Fin 4, (q : Nat) = j ∧ i = .lstore_n q) → j + 1 < mM_l M) := by
        unfold mj_lds at ha
        split at ha
        ·
          exact ⟨of_decide_eq_true hok, trivial, fun j => ⟨fun q => (by rcases q with q | q | ⟨_, _, q | q⟩ <;> cases q), fun q => (by rcases q with q | ⟨_, _, q⟩ <;> cases q)⟩⟩
        ·
          exact ⟨of_decide_eq_true hok, trivial, fun j => ⟨fun q => (by rcases q with q | q | ⟨_, _, q | q⟩ <;> cases q), fun q => (by rcases q with q | ⟨_, _, q⟩ <;> cases q)⟩⟩
        ·
          exact ⟨of_decide_eq_true hok, trivial, fun j => ⟨fun q => (by rcases q with q | q | ⟨_, _, q | q⟩ <;> cases q), fun q => (by rcases q with q | ⟨_, _, q⟩ <;> cases q)⟩⟩
        ·
          exact ⟨of_decide_eq_true hok, trivial, fun j => ⟨fun q => (by rcases q with q | q | ⟨_, _, q | q⟩ <;> cases q), fun q => (by rcases q with q | ⟨_, _, q⟩ <;> cases q)⟩⟩
        ·
          exact ⟨of_decide_eq_true hok, trivial, fun j => ⟨fun q => (by rcases q with q | q | ⟨_, _, q | q⟩ <;> cases q), fun q => (by rcases q with q | ⟨_, _, q⟩ <;> cases q)⟩⟩
        ·
          exact ⟨of_decide_eq_true hok, trivial, fun j => ⟨fun q => (by rcases q with q | q | ⟨_, _, q | q⟩ <;> cases q), fun q => (by rcases q with q | ⟨_, _, q⟩ <;> cases q)⟩⟩
        ·
          simp only [Bool.and_eq_true, decide_eq_true_eq] at hok
          exact ⟨hok.1, trivial, fun j => ⟨fun q => (by rcases q with q | q | ⟨z, hz, q | q⟩ <;> cases q <;> first | exact hok.2 | (subst hz; exact hok.2)), fun q => (by rcases q with q | ⟨z, hz, q⟩ <;> cases q <;> first | exact hok.2 | (subst hz; exact hok.2))⟩⟩
        ·
          simp only [Bool.and_eq_true, decide_eq_true_eq] at hok
          exact ⟨hok.1, trivial, fun j => ⟨fun q => (by rcases q with q | q | ⟨z, hz, q | q⟩ <;> cases q <;> first | exact hok.2 | (subst hz; exact hok.2)), fun q => (by rcases q with q | ⟨z, hz, q⟩ <;> cases q <;> first | exact hok.2 | (subst hz; exact hok.2))⟩⟩
        ·
          simp only [Bool.and_eq_true, decide_eq_true_eq] at hok
          exact ⟨hok.1, trivial, fun j => ⟨fun q => (by rcases q with q | q | ⟨z, hz, q | q⟩ <;> cases q <;> first | exact hok.2 | (subst hz; exact hok.2)), fun q => (by rcases q with q | ⟨z, hz, q⟩ <;> cases q <;> first | exact hok.2 | (subst hz; exact hok.2))⟩⟩
        ·
          simp only [Bool.and_eq_true, decide_eq_true_eq] at hok
          exact ⟨hok.1, trivial, fun j => ⟨fun q => (by rcases q with q | q | ⟨z, hz, q | q⟩ <;> cases q <;> first | exact hok.2 | (subst hz; exact hok.2)), fun q => (by rcases q with q | ⟨z, hz, q⟩ <;> cases q <;> first | exact hok.2 | (subst hz; exact hok.2))⟩⟩
        ·
          simp only [Bool.and_eq_true, decide_eq_true_eq] at hok
          exact ⟨hok.1, trivial, fun j => ⟨fun q => (by rcases q with q | q | ⟨z, hz, q | q⟩ <;> cases q <;> first | exact hok.2 | (subst hz; exact hok.2)), fun q => (by rcases q with q | ⟨z, hz, q⟩ <;> cases q <;> first | exact hok.2 | (subst hz; exact hok.2))⟩⟩
        ·
          simp only [Bool.and_eq_true, decide_eq_true_eq] at hok
          exact ⟨hok.1, trivial, fun j => ⟨fun q => (by rcases q with q | q | ⟨z, hz, q | q⟩ <;> cases q <;> first | exact hok.2 | (subst hz; exact hok.2)), fun q => (by rcases q with q | ⟨z, hz, q⟩ <;> cases q <;> first | exact hok.2 | (subst hz; exact hok.2))⟩⟩
        ·
          simp only [Bool.and_eq_true, decide_eq_true_eq] at hok
          exact ⟨hok.1, hok.2, fun j => ⟨fun q => (by rcases q with q | q | ⟨_, _, q | q⟩ <;> cases q), fun q => (by rcases q with q | ⟨_, _, q⟩ <;> cases q)⟩⟩
        · cases ha
      obtain ⟨rfl, hc, hbd⟩ := hl
      exact mj_lds_ok hx hb ha hc hbd hdec hL (fun ls' hL' => hnext hw H locs cells slots ls' hP hL' hlo hce hsl)
    · rename_i hA
      clear hA
      split at hw
      · rename_i q st' ha
        obtain ⟨cn, off, hi⟩ : ∃ cn off, (i = .ifCond cn off ∨ i = .if_icmp cn off) := by
          unfold mj_cnd at ha
          split at ha
          · exact ⟨_, _, Or.inl rfl⟩
          · exact ⟨_, _, Or.inr rfl⟩
          · cases ha
        have h2 : len = 3 ∧ mj_tg cd pc off a = true := by
          rcases hi with rfl | rfl <;> (simp only [Bool.and_eq_true, decide_eq_true_eq] at hok; exact hok)
        obtain ⟨rfl, ht⟩ := h2
        obtain ⟨e1, r, he, hp⟩ := mj_tg_ok ht
        refine mj_cnd_ok hx hb ha hdec (tgt := e1.1) (fun off' ho => ?_) (fun hq => ?_) (fun hq => ?_)
        · obtain ⟨cn', ho⟩ := ho
          rcases hi with rfl | rfl <;> rcases ho with ho | ho <;> cases ho <;> exact hp
        · obtain ⟨tgt, h3, h4⟩ := hjump ht (hw.1 hq)
          have : tgt = e1.1 := by omega
          rw [← this]
          exact h4 H locs cells slots ls hP hL hlo hce hsl
        · exact hnext (hw.2 hq) H locs cells slots ls hP hL hlo hce hsl
      · rename_i q st' ha
        obtain ⟨cn, off, hi⟩ : ∃ cn off, (i = .ifCond cn off ∨ i = .if_icmp cn off) := by
          unfold mj_cnd at ha
          split at ha
          · exact ⟨_, _, Or.inl rfl⟩
          · exact ⟨_, _, Or.inr rfl⟩
          · cases ha
        have h2 : len = 3 ∧ mj_tg cd pc off a = true := by
          rcases hi with rfl | rfl <;> (simp only [Bool.and_eq_true, decide_eq_true_eq] at hok; exact hok)
        obtain ⟨rfl, ht⟩ := h2
        obtain ⟨e1, r, he, hp⟩ := mj_tg_ok ht
        refine mj_cnd_ok hx hb ha hdec (tgt := e1.1) (fun off' ho => ?_) (fun hq => ?_) (fun hq => ?_)
        · obtain ⟨cn', ho⟩ := ho
          rcases hi with rfl | rfl <;> rcases ho with ho | ho <;> cases ho <;> exact hp
        · obtain ⟨tgt, h3, h4⟩ := hjump ht (hw.2 hq)
          have : tgt = e1.1 := by omega
          rw [← this]
          exact h4 H locs cells slots ls hP hL hlo hce hsl
        · exact hnext (hw.1 hq) H locs cells slots ls hP hL hlo hce hsl
      · rename_i hA
        clear hA
        unfold mj_hp at hw
        simp only at hw
        split at hw
        · -- goto
          simp only [Bool.and_eq_true, decide_eq_true_eq] at hok
          obtain ⟨rfl, ht⟩ := hok
          obtain ⟨tgt, h3, h4⟩ := hjump ht hw
          exact lv_goto hx hb hdec h3 (h4 H locs cells slots ls hP hL hlo hce hsl)
        · -- idiv
          have hl : len = 1 := of_decide_eq_true hok
          subst hl
          split at hw
          · have k := hnext hw.2 H locs cells slots ls hP hL hlo hce hsl
            exact lv_idiv hx hb hdec hw.1 k
          · exact hw.elim
        · -- irem
          have hl : len = 1 := of_decide_eq_true hok
          subst hl
          split at hw
          · have k := hnext hw.2 H locs cells slots ls hP hL hlo hce hsl
            rw [← mj_mod32] at k
            exact lv_irem hx hb hdec hw.1 k
          · exact hw.elim
        · -- ldiv
          have hl : len = 1 := of_decide_eq_true hok
          subst hl
          split at hw
          · have k := hnext hw.2 H locs cells slots ls hP hL hlo hce hsl
            exact lv_ldiv hx hb hdec hw.1 k
          · exact hw.elim
        · -- lrem
          have hl : len = 1 := of_decide_eq_true hok
          subst hl
          split at hw
          · have k := hnext hw.2 H locs cells slots ls hP hL hlo hce hsl
            rw [← mj_mod64] at k
            exact lv_lrem hx hb hdec hw.1 k
          · exact hw.elim
        · -- lcmp
          have hl : len = 1 := of_decide_eq_true hok
          subst hl
          split at hw
          · rename_i pc2 ct2 cn off len2 a2 b2 c2 cI2 cJ2 nx2
            obtain ⟨w', hok'⟩ := hok2 _ _ rfl
            unfold mj_okB at hok'
            simp only [Bool.and_eq_true, decide_eq_true_eq] at hok'
            obtain ⟨hdec2, rfl, ht⟩ := hok'
            have hpc : pc2 = pc + 1 := by
              have h1 := mj_adj_drop cd k hadj
              rw [hk] at h1
              simp only [mj_adj, Bool.and_eq_true, decide_eq_true_eq] at h1
              exact h1.1
            subst hpc
            have hnx2 : nx2 = cd.drop (k + 2) := by
              have := List.drop_drop (i := 1) (j := k + 1) (l := cd)
              rw [← hnx] at this
              exact this
            have hnext2 : ∀ {L st h bu}, go nx2 L st h bu → mj_AW p e R s m args below meth c G M Q mc ms (pc + 1 + 3) L st h bu := by
              intro L st h bu hg
              rw [hnx2] at hg
              obtain ⟨e1, r, he, ha⟩ := hgo (k + 2) L st h bu hg
              have h1 := mj_adj_drop cd (k + 1) hadj
              rw [← hnx, hnx2, he] at h1
              simp only [mj_adj, Bool.and_eq_true, decide_eq_true_eq] at h1
              rw [← h1.1]
              exact ha
            obtain ⟨e1, r, he, hp⟩ := mj_tg_ok ht
            have hj2 : ∀ {L st h bu}, go (cd.drop a2) L st h bu → mj_AW p e R s m args below meth c G M Q mc ms e1.1 L st h bu := by
              intro L st h bu hg
              obtain ⟨e2, r2, he2, ha⟩ := hgo a2 L st h bu hg
              rw [he] at he2
              cases he2
              exact ha
            split at hw
            · split at hw
              · refine W.lcmp hx hb hdec (lv_if_ne hx hb hdec2 hp (fun q => ?_) (fun q => ?_))
                · exact hj2 (hw.2 (fun z => q ((mj_cmp_eq _ _).mpr z))) H locs cells slots ls hP hL hlo hce hsl
                · exact hnext2 (hw.1 ((mj_cmp_eq _ _).mp q)) H locs cells slots ls hP hL hlo hce hsl
              · rename_i hne
                cases cn with
                | ne => exact absurd rfl hne
                | eq =>
                  refine W.lcmp hx hb hdec (lv_if_eq hx hb hdec2 hp (fun q => ?_) (fun q => ?_))
                  · exact hj2 (hw.1 ((mj_cmp_eq _ _).mp q)) H locs cells slots ls hP hL hlo hce hsl
                  · exact hnext2 (hw.2 (fun z => q ((mj_cmp_eq _ _).mpr z))) H locs cells slots ls hP hL hlo hce hsl
                | lt =>
                  refine W.lcmp hx hb hdec (lv_if_lt hx hb hdec2 hp (fun q => ?_) (fun q => ?_))
                  · exact hj2 (hw.1 ((mj_cmp_lt _ _).mp q)) H locs cells slots ls hP hL hlo hce hsl
                  · exact hnext2 (hw.2 (fun z => q ((mj_cmp_lt _ _).mpr z))) H locs cells slots ls hP hL hlo hce hsl
                | ge =>
                  refine W.lcmp hx hb hdec (lv_if_ge hx hb hdec2 hp (fun q => ?_) (fun q => ?_))
                  · exact hj2 (hw.1 ((mj_cmp_ge _ _).mp q)) H locs cells slots ls hP hL hlo hce hsl
                  · exact hnext2 (hw.2 (fun z => q ((mj_cmp_ge _ _).mpr z))) H locs cells slots ls hP hL hlo hce hsl
                | gt =>
                  refine W.lcmp hx hb hdec (lv_if_gt hx hb hdec2 hp (fun q => ?_) (fun q => ?_))
                  · exact hj2 (hw.1 ((mj_cmp_gt _ _).mp q)) H locs cells slots ls hP hL hlo hce hsl
                  · exact hnext2 (hw.2 (fun z => q ((mj_cmp_gt _ _).mpr z))) H locs cells slots ls hP hL hlo hce hsl
                | le =>
                  refine W.lcmp hx hb hdec (lv_if_le hx hb hdec2 hp (fun q => ?_) (fun q => ?_))
                  · exact hj2 (hw.1 ((mj_cmp_le _ _).mp q)) H locs cells slots ls hP hL hlo hce hsl
                  · exact hnext2 (hw.2 (fun z => q ((mj_cmp_le _ _).mpr z))) H locs cells slots ls hP hL hlo hce hsl
            · exact hw.elim
          · exact hw.elim
        · -- iaload
          have hl : len = 1 := of_decide_eq_true hok
          subst hl
          split at hw
          · exact mj_iald hx hb hKK hP hw.1 hw.2.1 hdec (hnext hw.2.2 H locs cells slots ls hP hL hlo hce hsl)
          · exact hw.elim
        · -- saload
          have hl : len = 1 := of_decide_eq_true hok
          subst hl
          split at hw
          · exact mj_sald hx hb hKK hP hw.1 hw.2.1 hdec (hnext hw.2.2 H locs cells slots ls hP hL hlo hce hsl)
          · exact hw.elim
        · -- baload
          have hl : len = 1 := of_decide_eq_true hok
          subst hl
          split at hw
          · exact mj_zald hx hb hKK hP hw.1 hw.2.1 hdec (hnext hw.2.2 H locs cells slots ls hP hL hlo hce hsl)
          · exact hw.elim
        · -- laload
          have hl : len = 1 := of_decide_eq_true hok
          subst hl
          split at hw
          · exact mj_lald hx hb hKK hP hw.1 hw.2.1 hdec (hnext hw.2.2 H locs cells slots ls hP hL hlo hce hsl)
          · exact hw.elim
        · -- aaload
          have hl : len = 1 := of_decide_eq_true hok
          subst hl
          split at hw
          · obtain ⟨h1, h2, q, h3, h4⟩ := hw
            exact mj_aald hx hb hKK hP h1 h2 h3 hdec (hnext h4 H locs cells slots ls hP hL hlo hce hsl)
          · exact hw.elim
        · -- iastore
          have hl : len = 1 := of_decide_eq_true hok
          subst hl
          split at hw
          · exact mj_iast hx hb hKK hP hw.1 hw.2.1 hdec hlo (fun H1 l1 hP1 hl1 => hnext hw.2.2 H1 l1 cells slots ls hP1 hL hl1 hce hsl)
          · exact hw.elim
        · -- sastore
          have hl : len = 1 := of_decide_eq_true hok
          subst hl
          split at hw
          · exact mj_sast hx hb hKK hP hw.1 hw.2.1 hdec hlo (fun H1 l1 hP1 hl1 => hnext hw.2.2 H1 l1 cells slots ls hP1 hL hl1 hce hsl)
          · exact hw.elim
        · -- bastore
          have hl : len = 1 := of_decide_eq_true hok
          subst hl
          split at hw
          · exact mj_zast hx hb hKK hP hw.1 hw.2.1 hdec hlo (fun H1 l1 hP1 hl1 => hnext hw.2.2 H1 l1 cells slots ls hP1 hL hl1 hce hsl)
          · exact hw.elim
        · -- lastore
          have hl : len = 1 := of_decide_eq_true hok
          subst hl
          split at hw
          · exact mj_last hx hb hKK hP hw.1 hw.2.1 hdec hlo (fun H1 l1 hP1 hl1 => hnext hw.2.2 H1 l1 cells slots ls hP1 hL hl1 hce hsl)
          · exact hw.elim
        · -- aastore
          have hl : len = 1 := of_decide_eq_true hok
          subst hl
          split at hw
          · exact mj_aast hx hb hKK hP hw.1 hw.2.1 hdec hlo (fun H1 l1 hP1 hl1 => hnext hw.2.2 H1 l1 cells slots ls hP1 hL hl1 hce hsl)
          · exact hw.elim
        · -- arraylength
          have hl : len = 1 := of_decide_eq_true hok
          subst hl
          split at hw
          · exact mj_alen hx hb hKK hP hw.1 hdec (hnext hw.2 H locs cells slots ls hP hL hlo hce hsl)
          · exact hw.elim
        · -- getfield
          simp only [Bool.and_eq_true, decide_eq_true_eq] at hok
          obtain ⟨⟨rfl, hfl⟩, htc⟩ := hok
          obtain ⟨C, T, N, hf⟩ := mj_fl_ok hfl
          rw [hf.1] at htc
          have htc : mj_tc (T b).2.2.1 = c3 := of_decide_eq_true htc
          split at hw
          · obtain ⟨h1, h2⟩ := hw
            split at h2
            · exact mj_getf hx hb hown hKK hP hf h1 hdec (by rw [htc]; exact hnext h2 H locs cells slots ls hP hL hlo hce hsl)
            · exact mj_getf hx hb hown hKK hP hf h1 hdec (by rw [htc]; exact hnext h2 H locs cells slots ls hP hL hlo hce hsl)
            · rename_i h3 h4
              obtain ⟨q, hq, h2⟩ := h2
              refine mj_getf hx hb hown hKK hP hf h1 hdec ?_
              rw [htc]
              unfold mj_fv
              rw [if_neg h4, if_neg h3, hq]
              exact hnext h2 H locs cells slots ls hP hL hlo hce hsl
          · exact hw.elim
        · -- putfield
          simp only [Bool.and_eq_true, decide_eq_true_eq] at hok
          obtain ⟨⟨⟨rfl, hci⟩, hfl⟩, hpf⟩ := hok
          obtain ⟨C, T, N, hf⟩ := mj_fl_ok hfl
          obtain ⟨hfin, t0, t3, t1, t2⟩ := mj_pf_ok hf hpf hnm
          split at hw
          · split at hw
            · exact mj_putf (h' := sI h _ b _) hx hb hown hKK hP hf hw.1 hci hdec hlo (t0 rfl).1 rfl rfl hfin (fun k' hk' => mj_up_ne hk') (fun _ _ => rfl) (fun _ _ => rfl) rfl (fun j _ => mj_ev_I (t0 rfl).2 j) (fun H1 l1 hP1 hl1 => hnext hw.2 H1 l1 cells slots ls hP1 hL hl1 hce hsl)
            · exact mj_putf (h' := sI h _ b _) hx hb hown hKK hP hf hw.1 hci hdec hlo (t3 rfl).1 (by rcases hw.2.1 with z | z <;> rw [z] <;> rfl) (by rcases hw.2.1 with z | z <;> rw [z] <;> rfl) hfin (fun k' hk' => mj_up_ne hk') (fun _ _ => rfl) (fun _ _ => rfl) rfl (fun j _ => mj_ev_I (t3 rfl).2 j) (fun H1 l1 hP1 hl1 => hnext hw.2.2 H1 l1 cells slots ls hP1 hL hl1 hce hsl)
            · exact hw.elim
          · split at hw
            · exact mj_putf (h' := sJ h _ b _) hx hb hown hKK hP hf hw.1 hci hdec hlo (t1 rfl).1 rfl rfl hfin (fun _ _ => rfl) (fun k' hk' => mj_up_ne hk') (fun _ _ => rfl) rfl (fun j _ => mj_ev_J (t1 rfl).2 j) (fun H1 l1 hP1 hl1 => hnext hw.2 H1 l1 cells slots ls hP1 hL hl1 hce hsl)
            · exact hw.elim
          · split at hw
            · obtain ⟨htc, ⟨cn, hcn⟩ | ⟨cn, hcn⟩⟩ := t2 rfl
              · exact mj_putf (h' := sR h _ b (some _)) hx hb hown hKK hP hf hw.1 hci hdec hlo hcn rfl rfl hfin (fun _ _ => rfl) (fun _ _ => rfl) (fun k' hk' => mj_up_ne hk') rfl (fun j _ => mj_ev_R htc j) (fun H1 l1 hP1 hl1 => hnext hw.2 H1 l1 cells slots ls hP1 hL hl1 hce hsl)
              · exact mj_putf (h' := sR h _ b (some _)) hx hb hown hKK hP hf hw.1 hci hdec hlo hcn rfl rfl hfin (fun _ _ => rfl) (fun _ _ => rfl) (fun k' hk' => mj_up_ne hk') rfl (fun j _ => mj_ev_R htc j) (fun H1 l1 hP1 hl1 => hnext hw.2 H1 l1 cells slots ls hP1 hL hl1 hce hsl)
            · exact hw.elim
          · exact hw.elim
        · -- new
          simp only [Bool.and_eq_true, decide_eq_true_eq] at hok
          obtain ⟨rfl, hnw⟩ := hok
          split at hw
          · rename_i hble
            rw [hble] at hnw
            simp only at hnw
            unfold mj_nw at hnw
            obtain ⟨⟨h1, h2⟩, h5⟩ := hw
            have ha60 : a < 60 := by
              rcases Nat.lt_or_ge a 60 with z | z
              · exact z
              · rw [Nat.ble_eq_true_of_le z] at hble
                cases hble
            split at hnw
            · rename_i C T N hc
              simp only [Bool.and_eq_true, decide_eq_true_eq] at hnw
              obtain ⟨⟨⟨⟨g1, g2⟩, g3⟩, g4⟩, g5⟩ := hnw
              rw [if_pos ha60] at hc
              have hN := g2 ha60
              subst hN
              have e1 : a = 10 + (a - 10) := by omega
              refine mj_newo hx hb hown hKK hP hc (by omega) (mj_lk_ok g3) (mj_lk_ok g4) (mj_lk_ok g5) (mj_dfl hc) (by omega) (by omega) hdec (fun H1 hP1 => ?_)
              rw [← e1] at hP1
              exact hnext h5 H1 locs (cells + 1) _ ls hP1 hL hlo (by simp only; omega) (by simp only; omega)
            · cases hnw
          · rename_i hble
            rw [hble] at hnw
            simp only at hnw
            unfold mj_nx at hnw
            split at hw
            · rename_i hx1 hwt
              obtain ⟨⟨h1, h2⟩, h5⟩ := hw
              split at hnw
              · rename_i C T N hc
                simp only [Bool.and_eq_true, decide_eq_true_eq] at hnw
                obtain ⟨⟨⟨⟨⟨⟨⟨⟨g1, g2, g3⟩, g4⟩, g5⟩, g6⟩, g7⟩, g8⟩, g9⟩, g10, g11⟩ := hnw
                have e1 : a = 60 + (a - 60) := by omega
                rw [e1] at h5
                obtain ⟨hq0, hP0⟩ := hF0
                exact mj_throwx hx hb hml hL.1 hown hKK hP0 hP hc g3 (mj_lk_ok g4) (mj_lk_ok g5) (mj_lk_ok g6) hdec g7 g8 g9 (by omega) (by omega) (mj_wt_sh hwt) (hno (hXh hx1)) hlk hlo (by omega) (by omega) hmcR hmsR h5
              · cases hnw
            · exact hw.elim
        · -- newarray
          simp only [Bool.and_eq_true, decide_eq_true_eq] at hok
          obtain ⟨⟨⟨rfl, rfl⟩, hk0⟩, hl⟩ := hok
          split at hw
          · obtain ⟨⟨h1, h2, h3, h4⟩, h5⟩ := hw
            exact mj_newa hx hb hKK hP hk0 (mj_lk_ok hl) h1 h2 (by omega) (by omega) hdec (fun H1 hP1 => hnext h5 H1 locs (cells + 1) _ ls hP1 hL hlo (by simp only; omega) (by simp only; omega))
          · exact hw.elim
        · -- anewarray
          simp only [Bool.and_eq_true, Bool.or_eq_true, decide_eq_true_eq] at hok
          obtain ⟨rfl, hor⟩ := hok
          split at hw
          · obtain ⟨⟨h1, h2, h3, h4⟩, h5⟩ := hw
            rcases hor with ⟨⟨rfl, q1⟩, q2⟩ | ⟨⟨rfl, q1⟩, q2⟩
            · exact mj_newq hx hb hown hKK hP (Or.inl ⟨rfl, rfl⟩) (mj_lk_ok q1) (mj_lk_ok q2) h1 h2 (by omega) (by omega) hdec (fun H1 hP1 => hnext h5 H1 locs (cells + 1) _ ls hP1 hL hlo (by simp only; omega) (by simp only; omega))
            · exact mj_newq hx hb hown hKK hP (Or.inr ⟨rfl, rfl⟩) (mj_lk_ok q1) (mj_lk_ok q2) h1 h2 (by omega) (by omega) hdec (fun H1 hP1 => hnext h5 H1 locs (cells + 1) _ ls hP1 hL hlo (by simp only; omega) (by simp only; omega))
          · exact hw.elim
        · -- invokevirtual
          simp only [Bool.and_eq_true, decide_eq_true_eq] at hok
          obtain ⟨⟨⟨⟨⟨⟨⟨⟨rfl, hml0⟩, hj⟩, hb0⟩, hfr0⟩, hlo0⟩, hsel0⟩, hsel1⟩, hci⟩ := hok
          split at hw
          · rename_i a0 rest hdrop
            split at hw
            · rename_i hwt
              obtain ⟨hka, mc', ms', Po, hCt, h1, h2, hk2⟩ := hw
              obtain ⟨hokM, -, hinst, hsel⟩ := mj_MB_ok (hm a hj).1 (hm a hj).2
              split at hci
              · rename_i C T0 N0 hcl
                have hCe : C = (mM_y (mj_mt a)).cls := of_decide_eq_true hci
                subst hCe
                have hav : ((st.take b).reverse).length = mM_n (mj_mt a) := by
                  rw [List.length_reverse, List.length_take, ← hb0]
                  have : b < st.length := by
                    rcases Nat.lt_or_ge b st.length with z | z
                    · exact z
                    · rw [List.drop_eq_nil_of_le z] at hdrop
                      cases hdrop
                  omega
                have key := mj_rowV (e := e) (args := args) (below := below) (locs := locs) (cells := cells) (slots := slots) (Q := mj_MQ G below Q s mc ms) (rest := rest.map (mj_sh G)) (ls := ls) hCt hx hb hml hL.1 hown hKK hokM (mj_ml_ok hml0) (hinst hsel1) (hsel hsel1 hsel0) hcl hka hav hP (by omega) (by omega) (mj_wt_sh hwt) (by omega) (by omega) hlo hdec (fun o' h' H1 l1 hPo hP' hl1 => mj_after hnext hexc (hk2 o' h' hPo) hP' hL hl1 (by simp only; omega) (by simp only; omega))
                rw [mj_take_rev st b G, hdrop]
                exact key
              · cases hci
            · exact hw.elim
          · exact hw.elim
        · -- invokespecial
          simp only [Bool.and_eq_true, decide_eq_true_eq] at hok
          obtain ⟨rfl, hok⟩ := hok
          split at hw
          · simp only [Bool.and_eq_true, decide_eq_true_eq] at hok
            obtain ⟨⟨⟨⟨⟨⟨⟨⟨hml0, hj⟩, hb0⟩, hfr0⟩, hlo0⟩, hh0⟩, hr0⟩, hn0⟩, hst0⟩ := hok
            split at hw
            · rename_i a0 rest hdrop
              split at hw
              · rename_i hwt
                obtain ⟨mc', ms', Po, hCt, h1, h2, hk2⟩ := hw
                obtain ⟨hokM, -, hinst, -⟩ := mj_MB_ok (hm a hj).1 (hm a hj).2
                have hav : ((st.take b).reverse).length = mM_n (mj_mt a) := by
                  rw [List.length_reverse, List.length_take, ← hb0]
                  have : b < st.length := by
                    rcases Nat.lt_or_ge b st.length with z | z
                    · exact z
                    · rw [List.drop_eq_nil_of_le z] at hdrop
                      cases hdrop
                  omega
                have key := mj_rowI (e := e) (args := args) (below := below) (locs := locs) (cells := cells) (slots := slots) (Q := mj_MQ G below Q s mc ms) (rest := rest.map (mj_sh G)) (ls := ls) hCt hx hb hml hL.1 hown hKK hokM hh0 hr0 (mj_ml_ok hml0) hn0 (hinst hst0) hav hP (by omega) (by omega) (mj_wt_sh hwt) (by omega) (by omega) hlo hdec (fun o' h' H1 l1 hPo hP' hl1 => mj_after hnext hexc (hk2 o' h' hPo) hP' hL hl1 (by simp only; omega) (by simp only; omega))
                rw [mj_take_rev st b G, hdrop]
                exact key
              · exact hw.elim
            · exact hw.elim
          · rename_i hc3
            split at hok
            · exact absurd rfl hc3
            · simp only [Bool.and_eq_true, decide_eq_true_eq] at hok
              obtain ⟨⟨⟨⟨q1, q2⟩, q3⟩, q4⟩, q5⟩ := hok
              split at hw
              · split at hw
                · rename_i hwt
                  have hwt2 : ((_ : List Value).map fun v => v.category).sum ≤ 8 := Nat.le_of_ble_eq_true (mj_wt_sh (G := G) hwt)
                  exact W.objInit hx hb hown (hKK.2.1.use (mj_lk_ok q1) rfl args) (hKK.2.1.use (mj_lk_ok q2) rfl args) (hKK.2.1.use (mj_lk_ok q3) rfl args) rfl (by rw [hml]; exact hL.1) rfl hdec (by omega) (by show 2 * 0 + _ + 12 ≤ _; omega) (hnext hw H locs cells slots ls hP hL hlo hce hsl)
                · exact hw.elim
              · exact hw.elim
        · -- invokestatic
          simp only [Bool.and_eq_true, decide_eq_true_eq] at hok
          obtain ⟨rfl, hok⟩ := hok
          split at hw
          · simp only [Bool.and_eq_true, decide_eq_true_eq] at hok
            obtain ⟨⟨⟨⟨⟨hml0, hj⟩, hb0⟩, hfr0⟩, hlo0⟩, hst0⟩ := hok
            split at hw
            · rename_i hwt0
              simp only [Bool.and_eq_true] at hwt0
              obtain ⟨hwt, hbl0⟩ := hwt0
              have hbl : b ≤ st.length := Nat.le_of_ble_eq_true hbl0
              obtain ⟨mc', ms', Po, hCt, h1, h2, hk2⟩ := hw
              obtain ⟨hokM, hstt, -, -⟩ := mj_MB_ok (hm a hj).1 (hm a hj).2
              · have hav : ((st.take b).reverse).length = mM_n (mj_mt a) := by
                  rw [List.length_reverse, List.length_take, ← hb0]
                  omega
                have key := mj_rowS (e := e) (args := args) (below := below) (locs := locs) (cells := cells) (slots := slots) (Q := mj_MQ G below Q s mc ms) (rest := (st.drop b).map (mj_sh G)) (ls := ls) hCt hx hb hml hL.1 hown hKK hokM (mj_ml_ok hml0) (hstt hst0) hav hP (by omega) (by omega) (mj_wt_sh hwt) (by omega) (by omega) hlo hdec (fun o' h' H1 l1 hPo hP' hl1 => mj_after hnext hexc (hk2 o' h' hPo) hP' hL hl1 (by simp only; omega) (by simp only; omega))
                rw [mj_take_rev st b G]
                exact key
            · exact hw.elim
          · rename_i hc3
            split at hok
            · exact absurd rfl hc3
            · simp only [Bool.and_eq_true, decide_eq_true_eq] at hok
              obtain ⟨⟨⟨⟨q1, q2⟩, q3⟩, q4⟩, q5⟩ := hok
              split at hw
              · split at hw
                · rename_i hwt
                  obtain ⟨⟨g1, g2, g3⟩, ⟨g4, g5, g6, g7, g8⟩, g9⟩ := hw
                  exact mj_copy hx hb (by rw [hml, hL.1]) hown hKK hP (mj_lk_ok q1) (mj_lk_ok q2) (mj_lk_ok q3) mj_sys g1 g2 g3 g4 g5 g6 g7 g8 (by omega) (mj_wt_sh hwt) (by omega) hlo hdec (fun H1 l1 hP1 hl1 => hnext g9 H1 l1 cells slots ls hP1 hL hl1 hce hsl)
                · exact hw.elim
              · exact hw.elim
        · -- ireturn
          have hl : len = 1 := of_decide_eq_true hok
          subst hl
          split at hw
          · rename_i hx1
            unfold mj_rtB at hrt
            rw [hx1] at hrt
            exact mj_iret hx hb (by rw [hret]; exact of_decide_eq_true hrt) hlk hKK hP hlo (by omega) (by omega) hw hdec
          · rename_i hx1
            unfold mj_rtB at hrt
            rw [hx1] at hrt
            exact mj_zret hx hb (by rw [hret]; exact of_decide_eq_true hrt) hlk hKK hP hlo (by omega) (by omega) hw.1 hw.2 hdec
          · exact hw.elim
        · -- lreturn
          have hl : len = 1 := of_decide_eq_true hok
          subst hl
          split at hw
          · rename_i hx1
            unfold mj_rtB at hrt
            rw [hx1] at hrt
            exact mj_lret hx hb (by rw [hret]; exact of_decide_eq_true hrt) hlk hKK hP hlo (by omega) (by omega) hw hdec
          · exact hw.elim
        · -- areturn
          have hl : len = 1 := of_decide_eq_true hok
          subst hl
          split at hw
          · rename_i hx1
            unfold mj_rtB at hrt
            rw [hx1] at hrt
            simp only at hrt
            split at hrt
            · rename_i C hC
              exact mj_aret hx hb (by rw [hret]; exact hC) hlk hKK hP hlo (by omega) (by omega) hw hdec
            · cases hrt
          · exact hw.elim
        · -- return
          have hl : len = 1 := of_decide_eq_true hok
          subst hl
          split at hw
          · rename_i hx1
            unfold mj_rtB at hrt
            rw [hx1] at hrt
            exact mj_vret hx hb (by rw [hret]; exact of_decide_eq_true hrt) hlk hKK hP hlo (by omega) (by omega) hw hdec
          · exact hw.elim
        · -- athrow
          have hl : len = 1 := of_decide_eq_true hok
          subst hl
          split at hw
          · rename_i hx1
            exact mj_athrow hx hb hdec (mj_leave hlk hKK hP hlo (by omega) (by omega) (hno (hXh hx1)) hw)
          · exact hw.elim
        · -- tableswitch
          simp only [Bool.and_eq_true] at hok
          obtain ⟨ht, hall⟩ := hok
          split at hw
          · rename_i lo hi offs z0 x r0
            by_cases hr : x.toInt < lo ∨ hi < x.toInt
            · obtain ⟨tgt, h3, h4⟩ := hjump ht (hw.1 hr)
              exact lv_tableOut hx hb hdec hr h3 (h4 H locs cells slots ls hP hL hlo hce hsl)
            · have hk1 : (x.toInt - lo).toNat ≤ (hi - lo).toNat := by omega
              have hk2 : x.toInt = lo + ((x.toInt - lo).toNat : Nat) := by omega
              have hg := hw.2 _ hk1 hk2
              have hall := List.all_eq_true.mp hall _ (List.mem_range.mpr (Nat.lt_succ_of_le hk1))
              split at hall
              · rename_i off ho
                obtain ⟨tgt, h3, h4⟩ := hjump hall hg
                exact lv_tableIn hx hb hdec (fun z => hr (Or.inl z)) (fun z => hr (Or.inr z)) ho h3 (h4 H locs cells slots ls hP hL hlo hce hsl)
              · cases hall
          · exact hw.elim
        · exact hw.elim
end SD
