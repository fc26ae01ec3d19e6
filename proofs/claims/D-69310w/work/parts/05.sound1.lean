/-! soundness: stack, locals, branches -/
def mj_len (i : Instr) : Nat := match i with
  | .bipush _ => 2
  | .sipush _ => 3
  | .ldc _ => 2
  | .ldc_w _ => 3
  | .ldc2_w _ => 3
  | .iload _ => 2
  | .lload _ => 2
  | .aload _ => 2
  | .istore _ => 2
  | .lstore _ => 2
  | .astore _ => 2
  | .iinc _ _ => 3
  | .ifCond _ _ => 3
  | .if_icmp _ _ => 3
  | .goto _ => 3
  | .getfield _ => 3
  | .putfield _ => 3
  | .invokevirtual _ => 3
  | .invokespecial _ => 3
  | .invokestatic _ => 3
  | .new _ => 3
  | .newarray _ => 2
  | .anewarray _ => 3
  | _ => 1
/-- the constants are what the class file says -/
def mj_okc (own : String) (i : Instr) (cI : Int32) (cJ : Int64) : Prop := match i with
  | .iconst n => Int32.ofInt n = cI
  | .bipush n => (Int8.ofInt n).toInt32 = cI
  | .sipush n => (Int16.ofInt n).toInt32 = cI
  | .iinc _ n => Int32.ofInt n = cI
  | .ldc k => Cond.constant own k cI ∈ lw_tbl
  | .ldc_w k => Cond.constant own k cI ∈ lw_tbl
  | .lconst n => Int64.ofNat (n : Nat) = cJ
  | .ldc2_w k => Cond.constantLong own k cJ ∈ lw_tbl
  | _ => True
def mj_L (G : mj_G) (ls : Array Slot) (n : Nat) (L : mj_Ls) : Prop := ls.size = n ∧ lv_wf ls ∧ L.length = n ∧ ∀ (i : Nat) (v : Value), L[i]? = some (some v) → ls[i]? = some (Slot.val (mj_sh G v))
def mj_asc (G : mj_G) : Nat → mj_Ls → List (Nat × Value)
  | _, [] => []
  | i, none :: r => mj_asc G (i + 1) r
  | i, some v :: r => (i, mj_sh G v) :: mj_asc G (i + 1) r
theorem mj_asc_mem (G : mj_G) : ∀ (L : mj_Ls) (i j : Nat) (v : Value), L[j]? = some (some v) → (i + j, mj_sh G v) ∈ mj_asc G i L
  | [], i, j, v, h => by simp at h
  | o :: r, i, 0, v, h => by
    simp only [List.getElem?_cons_zero, Option.some.injEq] at h
    subst h
    exact List.mem_cons_self
  | o :: r, i, j + 1, v, h => by
    rw [List.getElem?_cons_succ] at h
    have := mj_asc_mem G r (i + 1) j v h
    rw [show i + 1 + j = i + (j + 1) by omega] at this
    cases o with
    | none => exact this
    | some w => exact List.mem_cons_of_mem _ this
theorem mj_asc_of (G : mj_G) : ∀ (L : mj_Ls) (i : Nat) (q : Nat × Value), q ∈ mj_asc G i L → ∃ j v, q = (i + j, mj_sh G v) ∧ L[j]? = some (some v)
  | [], i, q, h => by simp [mj_asc] at h
  | none :: r, i, q, h => by
    obtain ⟨j, v, h1, h2⟩ := mj_asc_of G r (i + 1) q h
    exact ⟨j + 1, v, by rw [h1, show i + 1 + j = i + (j + 1) by omega], by rw [List.getElem?_cons_succ]; exact h2⟩
  | some w :: r, i, q, h => by
    rcases List.mem_cons.mp h with rfl | h
    · exact ⟨0, w, rfl, rfl⟩
    · obtain ⟨j, v, h1, h2⟩ := mj_asc_of G r (i + 1) q h
      exact ⟨j + 1, v, by rw [h1, show i + 1 + j = i + (j + 1) by omega], by rw [List.getElem?_cons_succ]; exact h2⟩
theorem mj_L.has {G : mj_G} {ls : Array Slot} {n : Nat} {L : mj_Ls} (h : mj_L G ls n L) : lv_has ls n (mj_asc G 0 L) := by
  refine ⟨h.1, h.2.1, fun q hq => ?_⟩
  obtain ⟨j, v, rfl, h2⟩ := mj_asc_of G L 0 q hq
  simpa using h.2.2.2 j v h2
theorem mj_cl1_get {L : mj_Ls} {i j : Nat} {w : Value} (h : (mj_cl1 L i)[j]? = some (some w)) : L[j]? = some (some w) ∧ ¬ (j + 1 = i ∧ w.category = 2) := by
  unfold mj_cl1 at h
  split at h
  · exact ⟨h, by omega⟩
  · rename_i k
    split at h
    · rename_i x hx
      by_cases hj : j = k
      · subst hj
        rw [List.getElem?_set_self (List.getElem?_eq_some_iff.mp hx).1] at h
        cases h
      · rw [List.getElem?_set_ne (Ne.symm hj)] at h
        exact ⟨h, by omega⟩
    · rename_i x hx
      by_cases hj : j = k
      · subst hj
        rw [List.getElem?_set_self (List.getElem?_eq_some_iff.mp hx).1] at h
        cases h
      · rw [List.getElem?_set_ne (Ne.symm hj)] at h
        exact ⟨h, by omega⟩
    · rename_i h1 h2
      refine ⟨h, fun ⟨e1, e2⟩ => ?_⟩
      have : j = k := by omega
      subst this
      cases w with
      | long x => exact h1 x h
      | double x => exact h2 x h
      | _ => simp [Value.category] at e2
theorem mj_cl1_len (L : mj_Ls) (i : Nat) : (mj_cl1 L i).length = L.length := by
  unfold mj_cl1
  split
  · rfl
  · split <;> simp
theorem mj_L.st1 {G : mj_G} {ls ls' : Array Slot} {n : Nat} {L : mj_Ls} {i : Nat} {v : Value} (h : mj_L G ls n L) (h' : lv_has ls' n ((i, mj_sh G v) :: (mj_asc G 0 L).filter (fun q => !(q.1 == i) && !(q.1 + 1 == i && q.2.category == 2)))) : mj_L G ls' n (mj_st1 L i v) := by
  refine ⟨h'.1, h'.2.1, by rw [mj_st1, List.length_set, mj_cl1_len]; exact h.2.2.1, fun j w hj => ?_⟩
  unfold mj_st1 at hj
  by_cases hji : j = i
  · subst hji
    have hl : j < (mj_cl1 L j).length := by
      have := (List.getElem?_eq_some_iff.mp hj).1
      simpa using this
    rw [List.getElem?_set_self hl] at hj
    cases hj
    exact h'.2.2 _ List.mem_cons_self
  · rw [List.getElem?_set_ne (Ne.symm hji)] at hj
    obtain ⟨h1, h2⟩ := mj_cl1_get hj
    have hm := mj_asc_mem G L 0 j w h1
    rw [Nat.zero_add] at hm
    refine h'.2.2 _ (List.mem_cons_of_mem _ (List.mem_filter.mpr ⟨hm, ?_⟩))
    simp only [Bool.and_eq_true, Bool.not_eq_true', beq_eq_false_iff_ne, ne_eq, Bool.and_eq_false_iff, mj_sh_cat]
    refine ⟨hji, ?_⟩
    by_cases hq : j + 1 = i
    · exact Or.inr (fun z => h2 ⟨hq, z⟩)
    · exact Or.inl hq
theorem mj_L.st2 {G : mj_G} {ls ls' : Array Slot} {n : Nat} {L : mj_Ls} {i : Nat} {v : Value} (h : mj_L G ls n L) (h' : lv_has ls' n ((i, mj_sh G v) :: (mj_asc G 0 L).filter (fun q => !(q.1 == i) && (!(q.1 == i + 1) && !(q.1 + 1 == i && q.2.category == 2))))) : mj_L G ls' n (mj_st2 L i v) := by
  refine ⟨h'.1, h'.2.1, by rw [mj_st2, List.length_set, List.length_set, mj_cl1_len]; exact h.2.2.1, fun j w hj => ?_⟩
  unfold mj_st2 at hj
  by_cases hj1 : j = i + 1
  · subst hj1
    have hl : i + 1 < ((mj_cl1 L i).set i (some v)).length := by
      have := (List.getElem?_eq_some_iff.mp hj).1
      simpa using this
    rw [List.getElem?_set_self hl] at hj
    cases hj
  · rw [List.getElem?_set_ne (Ne.symm hj1)] at hj
    by_cases hji : j = i
    · subst hji
      have hl : j < (mj_cl1 L j).length := by
        have := (List.getElem?_eq_some_iff.mp hj).1
        simpa using this
      rw [List.getElem?_set_self hl] at hj
      cases hj
      exact h'.2.2 _ List.mem_cons_self
    · rw [List.getElem?_set_ne (Ne.symm hji)] at hj
      obtain ⟨h1, h2⟩ := mj_cl1_get hj
      have hm := mj_asc_mem G L 0 j w h1
      rw [Nat.zero_add] at hm
      refine h'.2.2 _ (List.mem_cons_of_mem _ (List.mem_filter.mpr ⟨hm, ?_⟩))
      simp only [Bool.and_eq_true, Bool.not_eq_true', beq_eq_false_iff_ne, ne_eq, Bool.and_eq_false_iff, mj_sh_cat]
      refine ⟨hji, hj1, ?_⟩
      by_cases hq : j + 1 = i
      · exact Or.inr (fun z => h2 ⟨hq, z⟩)
      · exact Or.inl hq
theorem mj_len_of {G : mj_G} {ls : Array Slot} {n : Nat} {L : mj_Ls} (h : mj_L G ls n L) {i : Nat} {o : Option Value} (hi : L[i]? = some o) : i < n := by
  have := (List.getElem?_eq_some_iff.mp hi).1
  rw [h.2.2.1] at this
  exact this
section S1
variable {p : Program} {l : Launch} {e : Env} {R : Room} {s : State} {m : MethodId} {args : Array Value} {below : List Frame} {meth : Method} {c : Code} {H : Heap} {locs : List Loc} {cells slots : Nat} {Q : State → Prop} {cc : ByteArray} {pc : Nat} {ls : Array Slot} {own : String} {G : mj_G}
set_option maxHeartbeats 4000000 in
theorem mj_alu_ok (hx : p.tables.exec = Jvm.exec) (hb : c.code = cc) (hown : s.vm.findClass own = some m.cls) (hts : mj_TW s) {i : Instr} {cI : Int32} {cJ : Int64} {st st' : List Value} (ha : mj_alu i cI cJ st = some st') (hc : mj_okc own i cI cJ) (hd : decode cc pc = .ok (i, mj_len i))
    (k : W p l e R s m args below meth c H locs cells slots Q (F0 m (pc + mj_len i) ls (st'.map (mj_sh G)))) : W p l e R s m args below meth c H locs cells slots Q (F0 m pc ls (st.map (mj_sh G))) := by
  unfold mj_alu at ha
  split at ha
  · cases ha; exact lv_iconst hx hb hd hc k
  · cases ha; exact lv_bipush hx hb hd hc k
  · cases ha; exact lv_sipush hx hb hd hc k
  · cases ha; exact lv_ldc hx hb hown (hts.use hc rfl _) hd k
  · cases ha; exact lv_ldcw hx hb hown (hts.use hc rfl _) hd k
  · cases ha; exact lv_lconst hx hb hd hc k
  · cases ha; exact lv_ldc2 hx hb hown (hts.use hc rfl _) hd k
  · split at ha <;> first | (cases ha; exact lv_iadd hx hb hd k) | cases ha
  · split at ha <;> first | (cases ha; exact lv_isub hx hb hd k) | cases ha
  · split at ha <;> first | (cases ha; exact lv_imul hx hb hd k) | cases ha
  · split at ha <;> first | (cases ha; exact lv_iand hx hb hd k) | cases ha
  · split at ha <;> first | (cases ha; exact lv_ior hx hb hd k) | cases ha
  · split at ha <;> first | (cases ha; exact lv_ineg hx hb hd k) | cases ha
  · split at ha <;> first | (cases ha; exact lv_ladd hx hb hd k) | cases ha
  · split at ha <;> first | (cases ha; exact lv_lsub hx hb hd k) | cases ha
  · split at ha <;> first | (cases ha; exact lv_lmul hx hb hd k) | cases ha
  · split at ha <;> first | (cases ha; exact lv_land hx hb hd k) | cases ha
  · split at ha <;> first | (cases ha; exact lv_lor hx hb hd k) | cases ha
  · split at ha <;> first | (cases ha; exact lv_lxor hx hb hd k) | cases ha
  · split at ha <;> first | (cases ha; exact lv_lneg hx hb hd k) | cases ha
  · split at ha <;> first | (cases ha; exact lv_ishl hx hb hd k) | cases ha
  · split at ha <;> first | (cases ha; exact lv_ishr hx hb hd k) | cases ha
  · split at ha <;> first | (cases ha; exact lv_iushr hx hb hd rfl k) | cases ha
  · split at ha <;> first | (cases ha; exact lv_lshl hx hb hd rfl k) | cases ha
  · split at ha <;> first | (cases ha; exact lv_lshr hx hb hd rfl k) | cases ha
  · split at ha <;> first | (cases ha; exact lv_lushr hx hb hd rfl k) | cases ha
  · split at ha <;> first | (cases ha; exact lv_i2l hx hb hd rfl k) | cases ha
  · split at ha <;> first | (cases ha; exact lv_l2i hx hb hd rfl k) | cases ha
  · split at ha <;> first | (cases ha; exact lv_i2s hx hb hd rfl k) | cases ha
  · split at ha <;> first | (cases ha; exact lv_dup hx hb hd rfl k) | cases ha
  · split at ha <;> first | (cases ha; exact lv_pop (va := .int _) hx hb hd rfl k) | (cases ha; exact lv_pop (va := .ref _) hx hb hd rfl k) | cases ha
  · split at ha <;> first | (cases ha; exact lv_dup_x1 hx hb hd rfl rfl k) | cases ha
  · cases ha
set_option maxHeartbeats 4000000 in
theorem mj_lds_ok (hx : p.tables.exec = Jvm.exec) (hb : c.code = cc) {nL : Nat} {i : Instr} {cI : Int32} {cJ : Int64} {L L' : mj_Ls} {st st' : List Value} (ha : mj_lds i cI L st = some (L', st')) (hc : mj_okc own i cI cJ) (hbd : ∀ j, (i = .istore j ∨ i = .astore j ∨ (∃ q : Fin 4, (q : Nat) = j ∧ (i = .istore_n q ∨ i = .astore_n q)) → j < nL) ∧ (i = .lstore j ∨ (∃ q : Fin 4, (q : Nat) = j ∧ i = .lstore_n q) → j + 1 < nL)) (hd : decode cc pc = .ok (i, mj_len i)) (hl : mj_L G ls nL L)
    (k : ∀ ls', mj_L G ls' nL L' → W p l e R s m args below meth c H locs cells slots Q (F0 m (pc + mj_len i) ls' (st'.map (mj_sh G)))) : W p l e R s m args below meth c H locs cells slots Q (F0 m pc ls (st.map (mj_sh G))) := by
  unfold mj_lds at ha
  split at ha
  · split at ha
    · rename_i x hk
      cases ha
      exact lv_iload hx hb hd (hl.2.2.2 _ _ hk) (k _ hl)
    · cases ha
  · split at ha
    · rename_i x hk
      cases ha
      exact lv_iload_n hx hb hd rfl (hl.2.2.2 _ _ hk) (k _ hl)
    · cases ha
  · split at ha
    · rename_i x hk
      cases ha
      exact lv_lload hx hb hd (hl.2.2.2 _ _ hk) (k _ hl)
    · cases ha
  · split at ha
    · rename_i x hk
      cases ha
      exact lv_lload_n hx hb hd rfl (hl.2.2.2 _ _ hk) (k _ hl)
    · cases ha
  · split at ha
    · rename_i x hk
      cases ha
      exact lv_aload hx hb hd (hl.2.2.2 _ _ hk) (k _ hl)
    · cases ha
  · split at ha
    · rename_i x hk
      cases ha
      exact lv_aload_n hx hb hd rfl (hl.2.2.2 _ _ hk) (k _ hl)
    · cases ha
  · split at ha <;> first | (cases ha; exact lv_istore hx hb hd hl.has ((hbd _).1 (Or.inl rfl)) rfl (fun ls' h' => k ls' (hl.st1 (v := .int _) h'))) | cases ha
  · split at ha <;> first | (cases ha; exact lv_istore_n hx hb hd rfl hl.has ((hbd _).1 (Or.inr (Or.inr ⟨_, rfl, Or.inl rfl⟩))) rfl (fun ls' h' => k ls' (hl.st1 (v := .int _) h'))) | cases ha
  · split at ha <;> first | (cases ha; exact lv_lstore hx hb hd hl.has ((hbd _).2 (Or.inl rfl)) rfl (fun ls' h' => k ls' (hl.st2 (v := .long _) h'))) | cases ha
  · split at ha <;> first | (cases ha; exact lv_lstore_n hx hb hd rfl hl.has ((hbd _).2 (Or.inr ⟨_, rfl, rfl⟩)) rfl (fun ls' h' => k ls' (hl.st2 (v := .long _) h'))) | cases ha
  · split at ha <;> first | (cases ha; exact lv_astore hx hb hd hl.has ((hbd _).1 (Or.inr (Or.inl rfl))) rfl (fun ls' h' => k ls' (hl.st1 (v := .ref _) h'))) | cases ha
  · split at ha <;> first | (cases ha; exact lv_astore_n hx hb hd rfl hl.has ((hbd _).1 (Or.inr (Or.inr ⟨_, rfl, Or.inr rfl⟩))) rfl (fun ls' h' => k ls' (hl.st1 (v := .ref _) h'))) | cases ha
  · rename_i j n
    split at ha
    · rename_i x hk
      cases ha
      have hm := mj_asc_mem G L 0 j _ hk
      rw [Nat.zero_add] at hm
      obtain ⟨q, hq⟩ := List.getElem?_of_mem hm
      have hn : Int32.ofInt n = cI := hc
      exact lv_iinc hx hb hd hl.has hq (by rw [hn]) (mj_len_of hl hk) rfl (fun ls' h' => k ls' (hl.st1 (v := .int _) h'))
    · cases ha
  · cases ha
set_option maxHeartbeats 4000000 in
theorem mj_cnd_ok (hx : p.tables.exec = Jvm.exec) (hb : c.code = cc) {i : Instr} {q : Prop} {st st' : List Value} {tgt : Nat} {sw : Bool} (ha : mj_cnd i st = some (sw, q, st')) (hd : decode cc pc = .ok (i, 3)) (ht : ∀ off, (∃ cn, i = .ifCond cn off ∨ i = .if_icmp cn off) → (pc : Int) + off = (tgt : Int))
    (k1 : (if sw = true then ¬ q else q) → W p l e R s m args below meth c H locs cells slots Q (F0 m tgt ls (st'.map (mj_sh G)))) (k2 : (if sw = true then q else ¬ q) → W p l e R s m args below meth c H locs cells slots Q (F0 m (pc + 3) ls (st'.map (mj_sh G)))) : W p l e R s m args below meth c H locs cells slots Q (F0 m pc ls (st.map (mj_sh G))) := by
  unfold mj_cnd at ha
  split at ha
  · split at ha
    · split at ha <;> cases ha
      · exact lv_if_eq hx hb hd (ht _ ⟨_, Or.inl rfl⟩) k1 k2
      · exact lv_if_ne hx hb hd (ht _ ⟨_, Or.inl rfl⟩) k1 k2
      · exact lv_if_lt hx hb hd (ht _ ⟨_, Or.inl rfl⟩) k1 k2
      · exact lv_if_ge hx hb hd (ht _ ⟨_, Or.inl rfl⟩) k1 k2
      · exact lv_if_gt hx hb hd (ht _ ⟨_, Or.inl rfl⟩) k1 k2
      · exact lv_if_le hx hb hd (ht _ ⟨_, Or.inl rfl⟩) k1 k2
    · cases ha
  · split at ha
    · split at ha <;> cases ha
      · exact lv_icmp_eq hx hb hd (ht _ ⟨_, Or.inr rfl⟩) k1 k2
      · exact lv_icmp_ne hx hb hd (ht _ ⟨_, Or.inr rfl⟩) k1 k2
      · exact lv_icmp_lt hx hb hd (ht _ ⟨_, Or.inr rfl⟩) k1 k2
      · exact lv_icmp_ge hx hb hd (ht _ ⟨_, Or.inr rfl⟩) k1 k2
      · exact lv_icmp_gt hx hb hd (ht _ ⟨_, Or.inr rfl⟩) k1 k2
      · exact lv_icmp_le hx hb hd (ht _ ⟨_, Or.inr rfl⟩) k1 k2
    · cases ha
  · cases ha
end S1
