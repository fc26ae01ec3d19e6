/-! what is checked of a method's table, once, by the kernel -/
def mj_lk (w : Nat) (c : Cond) : Bool := decide (mj_at w = some c)
theorem mj_lk_ok {w : Nat} {c : Cond} (h : mj_lk w c = true) : c ∈ lw_tbl := mj_at_mem (of_decide_eq_true h)
def mj_tg (cd : List mj_E) (pc : Nat) (off : Int) (k : Nat) : Bool := match cd.drop k with
  | e :: _ => decide ((pc : Int) + off = (e.1 : Int))
  | [] => false
theorem mj_tg_ok {cd : List mj_E} {pc : Nat} {off : Int} {k : Nat} (h : mj_tg cd pc off k = true) : ∃ e r, cd.drop k = e :: r ∧ (pc : Int) + off = (e.1 : Int) := by
  unfold mj_tg at h
  split at h
  · rename_i e r he
    exact ⟨e, r, he, of_decide_eq_true h⟩
  · cases h
def mj_fl (own : String) (idx ci k w : Nat) : Bool := match mj_cl[ci]? with
  | some (C, T, N) => decide (k < N) && decide ((T k).1 = C) && (match mj_at w with
    | some (.fieldLink a b c d f) => decide (a = own ∧ b = idx ∧ c = C ∧ d = (T k).2.1 ∧ f = (T k).2.2.1)
    | some (.fieldLinkNest a b c d f _) => decide (a = own ∧ b = idx ∧ c = C ∧ d = (T k).2.1 ∧ f = (T k).2.2.1)
    | _ => false)
  | none => false
theorem mj_fl_ok {own : String} {idx ci k w : Nat} (h : mj_fl own idx ci k w = true) : ∃ C T N, mj_okf own idx ci k C T N := by
  unfold mj_fl at h
  split at h
  · rename_i C T N hc
    simp only [Bool.and_eq_true, decide_eq_true_eq] at h
    obtain ⟨⟨h1, h2⟩, h3⟩ := h
    refine ⟨C, T, N, hc, h1, h2, ?_⟩
    split at h3
    · rename_i a b c d f hw
      obtain ⟨rfl, rfl, rfl, rfl, rfl⟩ := of_decide_eq_true h3
      exact Or.inl (mj_at_mem hw)
    · rename_i a b c d f x hw
      obtain ⟨rfl, rfl, rfl, rfl, rfl⟩ := of_decide_eq_true h3
      exact Or.inr ⟨x, mj_at_mem hw⟩
    · cases h3
  · cases h
def mj_ml (own : String) (idx : Nat) (y : MethodName) (w : Nat) : Bool := match mj_at w with
  | some (.methodLink a b z) => decide (a = own ∧ b = idx ∧ z = y)
  | some (.methodLinkNest a b z _) => decide (a = own ∧ b = idx ∧ z = y)
  | _ => false
theorem mj_ml_ok {own : String} {idx w : Nat} {y : MethodName} (h : mj_ml own idx y w = true) : mj_okl own idx y := by
  unfold mj_ml at h
  split at h
  · rename_i a b z hw
    obtain ⟨rfl, rfl, rfl⟩ := of_decide_eq_true h
    exact Or.inl (mj_at_mem hw)
  · rename_i a b z x hw
    obtain ⟨rfl, rfl, rfl⟩ := of_decide_eq_true h
    exact Or.inr ⟨x, mj_at_mem hw⟩
  · cases h
/-- a field that is written: its type, and that it may be written here -/
def mj_pf (M : mj_M) (idx ci k c3 w : Nat) : Bool := match mj_cl[ci]? with
  | some (C, T, _) => (match c3 with
    | 0 => decide (parseFieldDescriptor (T k).2.2.1 = some .int) && decide (mj_tc (T k).2.2.1 = 0)
    | 3 => decide (parseFieldDescriptor (T k).2.2.1 = some .boolean) && decide (mj_tc (T k).2.2.1 = 0)
    | 1 => decide (parseFieldDescriptor (T k).2.2.1 = some .long) && decide (mj_tc (T k).2.2.1 = 1)
    | 2 => decide (mj_tc (T k).2.2.1 = 2) && (match parseFieldDescriptor (T k).2.2.1 with
      | some (.object _) => true
      | some (.array _) => true
      | _ => false)
    | _ => false) && (!(T k).2.2.2 || (decide ((mM_y M).cls = C) && decide ((mM_y M).name = "<init>") && mj_lk w (.fieldLink (mM_y M).cls idx C (T k).2.1 (T k).2.2.1)))
  | none => false
theorem mj_pf_ok {M : mj_M} {idx ci k c3 w : Nat} {C : String} {T : u_T} {N : Nat} (hf : mj_okf (mM_y M).cls idx ci k C T N) (h : mj_pf M idx ci k c3 w = true) {nm : String} (hnm : nm = (mM_y M).name) : ((T k).2.2.2 = false ∨ ((T k).2.2.2 = true ∧ (mM_y M).cls = C ∧ nm = "<init>" ∧ Cond.fieldLink (mM_y M).cls idx C (T k).2.1 (T k).2.2.1 ∈ lw_tbl)) ∧ (c3 = 0 → parseFieldDescriptor (T k).2.2.1 = some .int ∧ mj_tc (T k).2.2.1 = 0) ∧ (c3 = 3 → parseFieldDescriptor (T k).2.2.1 = some .boolean ∧ mj_tc (T k).2.2.1 = 0) ∧ (c3 = 1 → parseFieldDescriptor (T k).2.2.1 = some .long ∧ mj_tc (T k).2.2.1 = 1) ∧ (c3 = 2 → mj_tc (T k).2.2.1 = 2 ∧ ((∃ n, parseFieldDescriptor (T k).2.2.1 = some (.object n)) ∨ ∃ t, parseFieldDescriptor (T k).2.2.1 = some (.array t))) := by
  unfold mj_pf at h
  rw [hf.1] at h
  simp only [Bool.and_eq_true] at h
  obtain ⟨hty, hfn⟩ := h
  refine ⟨?_, fun z => ?_, fun z => ?_, fun z => ?_, fun z => ?_⟩
  · cases hq : (T k).2.2.2 with
    | false => exact Or.inl rfl
    | true =>
      rw [hq] at hfn
      simp only [Bool.not_true, Bool.false_or, Bool.and_eq_true, decide_eq_true_eq] at hfn
      exact Or.inr ⟨rfl, hfn.1.1, by rw [hnm]; exact hfn.1.2, mj_lk_ok hfn.2⟩
  · subst z
    simpa only [Bool.and_eq_true, decide_eq_true_eq] using hty
  · subst z
    simpa only [Bool.and_eq_true, decide_eq_true_eq] using hty
  · subst z
    simpa only [Bool.and_eq_true, decide_eq_true_eq] using hty
  · subst z
    simp only [Bool.and_eq_true, decide_eq_true_eq] at hty
    refine ⟨hty.1, ?_⟩
    have h2 := hty.2
    split at h2
    · rename_i n hn
      exact Or.inl ⟨n, hn⟩
    · rename_i t ht
      exact Or.inr ⟨t, ht⟩
    · cases h2
/-- what a class's new object is: kind, slots -/
def mj_nw (own : String) (idx a b w w2 w3 : Nat) : Bool := match mj_cl[if a < 60 then a - 10 else a - 60]? with
  | some (C, _, N) => decide (10 ≤ a) && decide (a < 60 → N = b) && mj_lk w (.classLink own idx C) && mj_lk w2 (.instantiable C b) && mj_lk w3 (.initialized C)
  | none => false
/-- an exception is made and thrown: new, dup, <init>, athrow -/
def mj_nx (M : mj_M) (pc idx a b ic w w2 w3 : Nat) : Bool := match mj_cl[a - 60]? with
  | some (C, _, _) => decide (60 ≤ a ∧ b = 6 ∧ (C = "java/lang/IllegalStateException" ∨ C = "java/lang/IllegalArgumentException" ∨ C = "java/lang/IndexOutOfBoundsException")) && mj_lk w (.classLink (mM_y M).cls idx C) && mj_lk w2 (.methodLink (mM_y M).cls ic (Bundle.init0 C)) && mj_lk w3 (.initialized C) && decide (decode (mM_b M) (pc + 3) = .ok (.dup, 1)) && decide (decode (mM_b M) (pc + 4) = .ok (.invokespecial ic, 3)) && decide (decode (mM_b M) (pc + 7) = .ok (.athrow, 1)) && decide (6 ≤ mM_f M ∧ 90 ≤ mM_w M)
  | none => false
def mj_okB (M : mj_M) (X : mj_X) (cd : List mj_E) (ms : List (Nat × Nat × Nat × Nat)) (e : mj_E) (w : Nat × Nat × Nat) : Bool :=
  decide (decode (mM_b M) e.1 = .ok (e.2.2.1, e.2.2.2.1)) && (match e.2.2.1 with
  | .iconst n => decide (e.2.2.2.1 = 1) && decide (Int32.ofInt n = e.2.2.2.2.2.2.2.1)
  | .bipush n => decide (e.2.2.2.1 = 2) && decide ((Int8.ofInt n).toInt32 = e.2.2.2.2.2.2.2.1)
  | .sipush n => decide (e.2.2.2.1 = 3) && decide ((Int16.ofInt n).toInt32 = e.2.2.2.2.2.2.2.1)
  | .iinc _ n => decide (e.2.2.2.1 = 3) && decide (Int32.ofInt n = e.2.2.2.2.2.2.2.1)
  | .ldc k => decide (e.2.2.2.1 = 2) && mj_lk w.1 (.constant (mM_y M).cls k e.2.2.2.2.2.2.2.1)
  | .ldc_w k => decide (e.2.2.2.1 = 3) && mj_lk w.1 (.constant (mM_y M).cls k e.2.2.2.2.2.2.2.1)
  | .lconst n => decide (e.2.2.2.1 = 1) && decide (Int64.ofNat (n : Nat) = e.2.2.2.2.2.2.2.2)
  | .ldc2_w k => decide (e.2.2.2.1 = 3) && mj_lk w.1 (.constantLong (mM_y M).cls k e.2.2.2.2.2.2.2.2)
  | .istore k => decide (e.2.2.2.1 = 2) && decide (k < mM_l M)
  | .istore_n k => decide (e.2.2.2.1 = 1) && decide (k.val < mM_l M)
  | .astore k => decide (e.2.2.2.1 = 2) && decide (k < mM_l M)
  | .astore_n k => decide (e.2.2.2.1 = 1) && decide (k.val < mM_l M)
  | .lstore k => decide (e.2.2.2.1 = 2) && decide (k + 1 < mM_l M)
  | .lstore_n k => decide (e.2.2.2.1 = 1) && decide (k.val + 1 < mM_l M)
  | .ifCond _ off => decide (e.2.2.2.1 = 3) && mj_tg cd e.1 off e.2.2.2.2.1
  | .if_icmp _ off => decide (e.2.2.2.1 = 3) && mj_tg cd e.1 off e.2.2.2.2.1
  | .goto off => decide (e.2.2.2.1 = 3) && mj_tg cd e.1 off e.2.2.2.2.1
  | .getfield k => decide (e.2.2.2.1 = 3) && mj_fl (mM_y M).cls k e.2.2.2.2.1 e.2.2.2.2.2.1 w.1 && (match mj_cl[e.2.2.2.2.1]? with
    | some (_, T, _) => decide (mj_tc (T e.2.2.2.2.2.1).2.2.1 = e.2.2.2.2.2.2.1)
    | none => false)
  | .putfield k => decide (e.2.2.2.1 = 3) && decide (e.2.2.2.2.1 < 50) && mj_fl (mM_y M).cls k e.2.2.2.2.1 e.2.2.2.2.2.1 w.1 && mj_pf M k e.2.2.2.2.1 e.2.2.2.2.2.1 e.2.2.2.2.2.2.1 w.1
  | .new k => decide (e.2.2.2.1 = 3) && (match Nat.ble 60 e.2.2.2.2.1 with
    | false => mj_nw (mM_y M).cls k e.2.2.2.2.1 e.2.2.2.2.2.1 w.1 w.2.1 w.2.2
    | true => mj_nx M e.1 k e.2.2.2.2.1 e.2.2.2.2.2.1 e.2.2.2.2.2.2.1 w.1 w.2.1 w.2.2)
  | .newarray t => decide (e.2.2.2.1 = 2) && decide (e.2.2.2.2.1 = mj_akind t) && decide (mj_akind t ≠ 0) && mj_lk w.1 (.arrayClass (newarray.typeOf t))
  | .anewarray k => decide (e.2.2.2.1 = 3) && ((decide (e.2.2.2.2.1 = 5) && mj_lk w.1 (.classLink (mM_y M).cls k "FormHouse$Whole") && mj_lk w.2.1 (.arrayOver (.object "FormHouse$Whole"))) || (decide (e.2.2.2.2.1 = 6) && mj_lk w.1 (.classLink (mM_y M).cls k "FormHouse$Pair") && mj_lk w.2.1 (.arrayOver (.object "FormHouse$Pair"))))
  | .invokevirtual k => decide (e.2.2.2.1 = 3) && mj_ml (mM_y M).cls k (mM_y (mj_mt e.2.2.2.2.1)) w.1 && decide (e.2.2.2.2.1 < 287 ∧ e.2.2.2.2.1 ≠ 1 ∧ e.2.2.2.2.1 ≠ 35) && decide (e.2.2.2.2.2.1 = mM_n (mj_mt e.2.2.2.2.1)) && decide (mM_f (mj_mt e.2.2.2.2.1) + 1 ≤ mM_f M) && decide (8 + (mM_l (mj_mt e.2.2.2.2.1) + 11) + mM_w (mj_mt e.2.2.2.2.1) ≤ mM_w M) && decide ((ms.getD e.2.2.2.2.1 (0, 0, 0, 0)).2.2.2 ≠ 9999) && decide ((ms.getD e.2.2.2.2.1 (0, 0, 0, 0)).2.2.2 ≠ 9998) && (match mj_cl[e.2.2.2.2.2.2.1]? with
    | some (C, _, _) => decide (C = (mM_y (mj_mt e.2.2.2.2.1)).cls)
    | none => false)
  | .invokespecial k => decide (e.2.2.2.1 = 3) && (match e.2.2.2.2.2.2.1 with
    | 0 => mj_ml (mM_y M).cls k (mM_y (mj_mt e.2.2.2.2.1)) w.1 && decide (e.2.2.2.2.1 < 287 ∧ e.2.2.2.2.1 ≠ 1 ∧ e.2.2.2.2.1 ≠ 35) && decide (e.2.2.2.2.2.1 = mM_n (mj_mt e.2.2.2.2.1)) && decide (mM_f (mj_mt e.2.2.2.2.1) + 1 ≤ mM_f M) && decide (8 + (mM_l (mj_mt e.2.2.2.2.1) + 11) + mM_w (mj_mt e.2.2.2.2.1) ≤ mM_w M) && decide (mM_h (mj_mt e.2.2.2.2.1) = []) && decide (mM_r (mj_mt e.2.2.2.2.1) = none) && decide ((mM_y (mj_mt e.2.2.2.2.1)).name = "<init>") && decide ((ms.getD e.2.2.2.2.1 (0, 0, 0, 0)).2.2.2 ≠ 9998)
    | _ => mj_lk w.1 (.methodLink (mM_y M).cls k Lib.objectInit) && mj_lk w.2.1 (.instanceMethod Lib.objectInit) && mj_lk w.2.2 (.code Lib.objectInit ⟨#[0xb1]⟩ 1 none) && decide (1 ≤ mM_f M) && decide (20 ≤ mM_w M))
  | .invokestatic k => decide (e.2.2.2.1 = 3) && (match e.2.2.2.2.2.2.1 with
    | 0 => mj_ml (mM_y M).cls k (mM_y (mj_mt e.2.2.2.2.1)) w.1 && decide (e.2.2.2.2.1 < 287 ∧ e.2.2.2.2.1 ≠ 1 ∧ e.2.2.2.2.1 ≠ 35) && decide (e.2.2.2.2.2.1 = mM_n (mj_mt e.2.2.2.2.1)) && decide (mM_f (mj_mt e.2.2.2.2.1) + 1 ≤ mM_f M) && decide (8 + (mM_l (mj_mt e.2.2.2.2.1) + 11) + mM_w (mj_mt e.2.2.2.2.1) ≤ mM_w M) && decide ((ms.getD e.2.2.2.2.1 (0, 0, 0, 0)).2.2.2 = 9998)
    | _ => mj_lk w.1 (.methodLink (mM_y M).cls k arraycopyName) && mj_lk w.2.1 (.native arraycopyName) && mj_lk w.2.2 (.static arraycopyName) && decide (1 ≤ mM_f M) && decide (8 + (nativeFrameWords "java/lang/System" "arraycopy" 5 + 11) ≤ mM_w M))
  | .tableswitch d lo hi offs => mj_tg cd e.1 d e.2.2.2.2.1 && (List.range ((hi - lo).toNat + 1)).all (fun k => match offs[k]? with
    | some off => mj_tg cd e.1 off (X.2.2.getD (e.2.2.2.2.2.1 + k) 0)
    | none => false)
  | i => decide (e.2.2.2.1 = mj_len i))
def mj_adj : List mj_E → Bool
  | e :: e' :: r => decide (e'.1 = e.1 + e.2.2.2.1) && mj_adj (e' :: r)
  | _ => true
theorem mj_adj_drop : ∀ (cd : List mj_E) (k : Nat), mj_adj cd = true → mj_adj (cd.drop k) = true
  | cd, 0, h => h
  | [], k + 1, h => rfl
  | [_], k + 1, h => by simp [mj_adj]
  | e :: e' :: r, k + 1, h => by
    simp only [mj_adj, Bool.and_eq_true] at h
    exact mj_adj_drop (e' :: r) k h.2
/-- of each method: places of the words code, initialized, static or instanceMethod, selects (9998: static; 9999: none) -/
def mj_MB (M : mj_M) (q : Nat × Nat × Nat × Nat) : Bool := mj_lk q.2.1 (.initialized (mM_y M).cls) && decide ((mM_y M).cls ≠ "java/lang/invoke/MethodHandle" ∧ (mM_y M).cls ≠ "java/lang/invoke/VarHandle") && decide ((parseMethodDescriptor (mM_y M).desc).map (fun d => d.parameters.length) = some (mM_n M)) &&
  (if q.2.2.2 = 9998 then mj_lk q.2.2.1 (.static (mM_y M)) else mj_lk q.2.2.1 (.instanceMethod (mM_y M)) && (if q.2.2.2 = 9999 then true else mj_lk q.2.2.2 (.selects (mM_y M).cls (mM_y M) (mM_y M))))
theorem mj_MB_ok {M : mj_M} {q : Nat × Nat × Nat × Nat} (h1 : mj_cw M ∈ lw_tbl) (h : mj_MB M q = true) : mj_okM M ∧ (q.2.2.2 = 9998 → Cond.static (mM_y M) ∈ lw_tbl) ∧ (q.2.2.2 ≠ 9998 → Cond.instanceMethod (mM_y M) ∈ lw_tbl) ∧ (q.2.2.2 ≠ 9998 → q.2.2.2 ≠ 9999 → Cond.selects (mM_y M).cls (mM_y M) (mM_y M) ∈ lw_tbl) := by
  unfold mj_MB at h
  simp only [Bool.and_eq_true, decide_eq_true_eq] at h
  obtain ⟨⟨⟨h2, h3⟩, h4⟩, h5⟩ := h
  refine ⟨⟨h1, mj_lk_ok h2, h3, h4⟩, fun q1 => ?_, fun q1 => ?_, fun q1 q2 => ?_⟩
  · rw [if_pos q1] at h5
    exact mj_lk_ok h5
  · rw [if_neg q1] at h5
    simp only [Bool.and_eq_true] at h5
    exact mj_lk_ok h5.1
  · rw [if_neg q1] at h5
    simp only [Bool.and_eq_true] at h5
    rw [if_neg q2] at h5
    exact mj_lk_ok h5.2
