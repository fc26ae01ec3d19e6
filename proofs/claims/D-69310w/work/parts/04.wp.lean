/-! the mini machine's code, and wp -/
/-- pc, whether a cut, instruction, its length, three numbers, an int, a long -/
abbrev mj_E : Type := Nat × Bool × Instr × Nat × Nat × Nat × Nat × Int32 × Int64
abbrev mj_Ls : Type := List (Option Value)
def mj_cl1 (L : mj_Ls) (i : Nat) : mj_Ls := match i with
  | 0 => L
  | j + 1 => match L[j]? with
    | some (some (.long _)) => L.set j none
    | some (some (.double _)) => L.set j none
    | _ => L
def mj_st1 (L : mj_Ls) (i : Nat) (v : Value) : mj_Ls := (mj_cl1 L i).set i (some v)
def mj_st2 (L : mj_Ls) (i : Nat) (v : Value) : mj_Ls := ((mj_cl1 L i).set i (some v)).set (i + 1) none
/-- what only moves the stack -/
def mj_alu (i : Instr) (cI : Int32) (cJ : Int64) (st : List Value) : Option (List Value) := match i with
  | .iconst _ => some (.int cI :: st)
  | .bipush _ => some (.int cI :: st)
  | .sipush _ => some (.int cI :: st)
  | .ldc _ => some (.int cI :: st)
  | .ldc_w _ => some (.int cI :: st)
  | .lconst _ => some (.long cJ :: st)
  | .ldc2_w _ => some (.long cJ :: st)
  | .iadd => match st with
    | .int y :: .int x :: r => some (.int (x + y) :: r)
    | _ => none
  | .isub => match st with
    | .int y :: .int x :: r => some (.int (x - y) :: r)
    | _ => none
  | .imul => match st with
    | .int y :: .int x :: r => some (.int (x * y) :: r)
    | _ => none
  | .iand => match st with
    | .int y :: .int x :: r => some (.int (x &&& y) :: r)
    | _ => none
  | .ior => match st with
    | .int y :: .int x :: r => some (.int (x ||| y) :: r)
    | _ => none
  | .ineg => match st with
    | .int x :: r => some (.int (-x) :: r)
    | _ => none
  | .ladd => match st with
    | .long y :: .long x :: r => some (.long (x + y) :: r)
    | _ => none
  | .lsub => match st with
    | .long y :: .long x :: r => some (.long (x - y) :: r)
    | _ => none
  | .lmul => match st with
    | .long y :: .long x :: r => some (.long (x * y) :: r)
    | _ => none
  | .land => match st with
    | .long y :: .long x :: r => some (.long (x &&& y) :: r)
    | _ => none
  | .lor => match st with
    | .long y :: .long x :: r => some (.long (x ||| y) :: r)
    | _ => none
  | .lxor => match st with
    | .long y :: .long x :: r => some (.long (x ^^^ y) :: r)
    | _ => none
  | .lneg => match st with
    | .long x :: r => some (.long (-x) :: r)
    | _ => none
  | .ishl => match st with
    | .int y :: .int x :: r => some (.int (x <<< (y &&& 31)) :: r)
    | _ => none
  | .ishr => match st with
    | .int y :: .int x :: r => some (.int (x >>> (y &&& 31)) :: r)
    | _ => none
  | .iushr => match st with
    | .int y :: .int x :: r => some (.int (x.toUInt32 >>> (y.toUInt32 &&& Int32.toUInt32 31)).toInt32 :: r)
    | _ => none
  | .lshl => match st with
    | .int y :: .long x :: r => some (.long (x <<< (y.toInt64 &&& 63)) :: r)
    | _ => none
  | .lshr => match st with
    | .int y :: .long x :: r => some (.long (x >>> (y.toInt64 &&& 63)) :: r)
    | _ => none
  | .lushr => match st with
    | .int y :: .long x :: r => some (.long (x.toUInt64 >>> (y.toInt64.toUInt64 &&& Int64.toUInt64 63)).toInt64 :: r)
    | _ => none
  | .i2l => match st with
    | .int x :: r => some (.long x.toInt64 :: r)
    | _ => none
  | .l2i => match st with
    | .long x :: r => some (.int x.toInt32 :: r)
    | _ => none
  | .i2s => match st with
    | .int x :: r => some (.int x.toInt16.toInt32 :: r)
    | _ => none
  | .dup => match st with
    | .int x :: r => some (.int x :: .int x :: r)
    | .ref x :: r => some (.ref x :: .ref x :: r)
    | _ => none
  | .pop => match st with
    | .int _ :: r => some r
    | .ref _ :: r => some r
    | _ => none
  | .dup_x1 => match st with
    | .int x :: .ref y :: r => some (.int x :: .ref y :: .int x :: r)
    | .int x :: .int y :: r => some (.int x :: .int y :: .int x :: r)
    | _ => none
  | _ => none
/-- loads and stores -/
def mj_lds (i : Instr) (cI : Int32) (L : mj_Ls) (st : List Value) : Option (mj_Ls × List Value) := match i with
  | .iload k => match L[k]? with
    | some (some (.int x)) => some (L, .int x :: st)
    | _ => none
  | .iload_n k => match L[k.val]? with
    | some (some (.int x)) => some (L, .int x :: st)
    | _ => none
  | .lload k => match L[k]? with
    | some (some (.long x)) => some (L, .long x :: st)
    | _ => none
  | .lload_n k => match L[k.val]? with
    | some (some (.long x)) => some (L, .long x :: st)
    | _ => none
  | .aload k => match L[k]? with
    | some (some (.ref x)) => some (L, .ref x :: st)
    | _ => none
  | .aload_n k => match L[k.val]? with
    | some (some (.ref x)) => some (L, .ref x :: st)
    | _ => none
  | .istore k => match st with
    | .int x :: r => some (mj_st1 L k (.int x), r)
    | _ => none
  | .istore_n k => match st with
    | .int x :: r => some (mj_st1 L k.val (.int x), r)
    | _ => none
  | .lstore k => match st with
    | .long x :: r => some (mj_st2 L k (.long x), r)
    | _ => none
  | .lstore_n k => match st with
    | .long x :: r => some (mj_st2 L k.val (.long x), r)
    | _ => none
  | .astore k => match st with
    | .ref x :: r => some (mj_st1 L k (.ref x), r)
    | _ => none
  | .astore_n k => match st with
    | .ref x :: r => some (mj_st1 L k.val (.ref x), r)
    | _ => none
  | .iinc k _ => match L[k]? with
    | some (some (.int x)) => some (mj_st1 L k (.int (x + cI)), st)
    | _ => none
  | _ => none
/-- branches: whether turned round, the condition, and what is left on the stack -/
def mj_cnd (i : Instr) (st : List Value) : Option (Bool × Prop × List Value) := match i with
  | .ifCond c _ => match st with
    | .int x :: r => match c with
      | .eq => some (false, x = 0, r)
      | .ne => some (true, x = 0, r)
      | .lt => some (false, x < 0, r)
      | .ge => some (false, 0 ≤ x, r)
      | .gt => some (false, 0 < x, r)
      | .le => some (false, x ≤ 0, r)
    | _ => none
  | .if_icmp c _ => match st with
    | .int y :: .int x :: r => match c with
      | .eq => some (false, x = y, r)
      | .ne => some (true, x = y, r)
      | .lt => some (false, x < y, r)
      | .ge => some (false, y ≤ x, r)
      | .gt => some (false, y < x, r)
      | .le => some (false, x ≤ y, r)
    | _ => none
  | _ => none
/-- a comparison of longs, and the branch behind it -/
def mj_lcm (c : ClassFile.Cond) (x y : Int64) : Prop := match c with
  | .eq => x = y
  | .ne => x = y
  | .lt => x < y
  | .ge => y ≤ x
  | .gt => y < x
  | .le => x ≤ y
abbrev mj_K : Type := Nat → mj_Ls → List Value → mj_H → Nat × Nat → Prop
abbrev mj_Wk : Type := List mj_E → mj_Ls → List Value → mj_H → Nat × Nat → Prop
abbrev mj_Q : Type := Outcome → mj_H → Prop
/-- a method's return kind (0 none, 1 int, 2 long, 3 reference, 4 boolean), its handlers, its switches' targets -/
abbrev mj_X : Type := Nat × List (Nat × Nat × Nat × Nat) × List Nat
def mj_go (K : mj_K) (w : mj_Wk) : mj_Wk := fun cur L st h bu => match cur with
  | [] => False
  | e :: r => match e.2.1 with
    | true => K e.1 L st h bu
    | false => w (e :: r) L st h bu
abbrev mM_y (M : mj_M) : MethodName := M.1
abbrev mM_b (M : mj_M) : ByteArray := M.2.1
abbrev mM_l (M : mj_M) : Nat := M.2.2.1
abbrev mM_r (M : mj_M) : Option FieldType := M.2.2.2.1
abbrev mM_n (M : mj_M) : Nat := M.2.2.2.2.1
abbrev mM_f (M : mj_M) : Nat := M.2.2.2.2.2.1
abbrev mM_w (M : mj_M) : Nat := M.2.2.2.2.2.2.1
abbrev mM_k (M : mj_M) : Nat := M.2.2.2.2.2.2.2.1
abbrev mM_h (M : mj_M) : List (Nat × Nat × Nat × Nat) := M.2.2.2.2.2.2.2.2
def mj_shO (G : mj_G) (o : Outcome) : Outcome := match o with
  | .returned v => .returned (v.map (mj_sh G))
  | .threw x => .threw (mj_ad G x)
def mj_FE (first : State) (t : State) (L : List Loc) (k n : Nat) : Prop := first.WarmedH t.vm ∧ first.sameButNew ({ t with vm := first.vm } : State) L k n
def mj_cw (M : mj_M) : Cond := match mM_h M with
  | [] => .code (mM_y M) (mM_b M) (mM_l M) (mM_r M)
  | x :: r => .codeWith (mM_y M) (mM_b M) (mM_l M) (mM_r M) (x :: r)
def mj_rm (M : mj_M) (mc ms : Nat) : Room := { frames := mM_f M, cells := mc, slots := ms, locals := mM_w M }
/-- A METHOD'S CONTRACT: called with av in the heap h it ends, by an outcome and in a heap that Po allows; at most mc cells of ms slots are new -/
def mj_Ct (G : mj_G) (M : mj_M) (mc ms : Nat) (av : List Value) (h : mj_H) (Po : mj_Q) : Prop :=
  MetFree (gl G) (mM_y M) (headSpec [mj_cw M] (mj_rm M mc ms)) (fun args U => args = (av.map (mj_sh G)).toArray ∧ mj_P G h U.heap ∧ mj_KK G U) (fun _ _ _ _ _ => True)
    (fun _ st o t => (∃ o' h', o = mj_shO G o' ∧ Po o' h' ∧ mj_P G h' t.heap ∧ mj_KK G t) ∧ ∃ L, mj_FE st t L mc ms ∧ ∀ q ∈ L, gN G < q.base)
def mj_call (G : mj_G) (j : Nat) (av : List Value) (h : mj_H) (bu : Nat × Nat) (k : Outcome → mj_H → Nat × Nat → Prop) : Prop :=
  ∃ mc ms Po, mj_Ct G (mj_mt j) mc ms av h Po ∧ mc ≤ bu.1 ∧ ms ≤ bu.2 ∧ ∀ o h', Po o h' → k o h' (bu.1 - mc, bu.2 - ms)
/-- what an exception meets: the handlers (from, to, handler's place in the code, number of its class) -/
def mj_exh (cd : List mj_E) (go : mj_Wk) (pc : Nat) (L : mj_Ls) (x : Nat) (h : mj_H) (bu : Nat × Nat) : List (Nat × Nat × Nat × Nat) → Prop
  | [] => False
  | (s, e, t, ci) :: r => match decide (s ≤ pc ∧ pc < e) with
    | false => mj_exh cd go pc L x h bu r
    | true => (hK h x = 78 ∨ hK h x = 80 ∨ hK h x = 81) ∧ (hK h x = 60 + ci → go (cd.drop t) L [.ref x] h bu) ∧ (hK h x ≠ 60 + ci → mj_exh cd go pc L x h bu r)
def mj_exc (cd : List mj_E) (go : mj_Wk) (Q : mj_Q) (pc : Nat) (L : mj_Ls) (x : Nat) (h : mj_H) (bu : Nat × Nat) (hs : List (Nat × Nat × Nat × Nat)) : Prop := match hs with
  | [] => Q (.threw x) h
  | y :: r => mj_exh cd go pc L x h bu (y :: r)
/-- behind a call -/
def mj_aft (cd : List mj_E) (hs : List (Nat × Nat × Nat × Nat)) (go : mj_Wk) (Q : mj_Q) (pc : Nat) (nx : List mj_E) (L : mj_Ls) (rest : List Value) : Outcome → mj_H → Nat × Nat → Prop := fun o h bu => match o with
  | .returned none => go nx L rest h bu
  | .returned (some v) => go nx L (v :: rest) h bu
  | .threw x => mj_exc cd go Q pc L x h bu hs
def mj_wt (st : List Value) : Bool := Nat.ble ((st.map fun v => v.category).sum) 8
/-- heap, calls, returns, divisions, switches -/
def mj_hp (G : mj_G) (X : mj_X) (cd : List mj_E) (go : mj_Wk) (Q : mj_Q) (pc : Nat) (i : Instr) (a1 b1 c1 : Nat) (nx : List mj_E) (L : mj_Ls) (st : List Value) (h : mj_H) (bu : Nat × Nat) : Prop := match i with
  | .goto _ => go (cd.drop a1) L st h bu
  | .idiv => match st with
    | .int y :: .int x :: r => ¬ y = 0 ∧ go nx L (.int (x / y) :: r) h bu
    | _ => False
  | .irem => match st with
    | .int y :: .int x :: r => ¬ y = 0 ∧ go nx L (.int (x % y) :: r) h bu
    | _ => False
  | .ldiv => match st with
    | .long y :: .long x :: r => ¬ y = 0 ∧ go nx L (.long (x / y) :: r) h bu
    | _ => False
  | .lrem => match st with
    | .long y :: .long x :: r => ¬ y = 0 ∧ go nx L (.long (x % y) :: r) h bu
    | _ => False
  | .lcmp => match nx with
    | (_, _, .ifCond c _, _, a2, _, _, _, _) :: nx2 => match st with
      | .long y :: .long x :: r => match c with
        | .ne => (x = y → go nx2 L r h bu) ∧ (¬ x = y → go (cd.drop a2) L r h bu)
        | c => (mj_lcm c x y → go (cd.drop a2) L r h bu) ∧ (¬ mj_lcm c x y → go nx2 L r h bu)
      | _ => False
    | _ => False
  | .iaload => match st with
    | .int i :: .ref a :: r => (hK h a = 1 ∨ hK h a = 7) ∧ vp_in i (hN h a) ∧ go nx L (.int (hI h a i.toNatClampNeg) :: r) h bu
    | _ => False
  | .saload => match st with
    | .int i :: .ref a :: r => hK h a = 3 ∧ vp_in i (hN h a) ∧ go nx L (.int (hI h a i.toNatClampNeg) :: r) h bu
    | _ => False
  | .baload => match st with
    | .int i :: .ref a :: r => hK h a = 4 ∧ vp_in i (hN h a) ∧ go nx L (.int (hI h a i.toNatClampNeg) :: r) h bu
    | _ => False
  | .laload => match st with
    | .int i :: .ref a :: r => hK h a = 2 ∧ vp_in i (hN h a) ∧ go nx L (.long (hJ h a i.toNatClampNeg) :: r) h bu
    | _ => False
  | .aaload => match st with
    | .int i :: .ref a :: r => (hK h a = 5 ∨ hK h a = 6) ∧ vp_in i (hN h a) ∧ ∃ q, hR h a i.toNatClampNeg = some q ∧ go nx L (.ref q :: r) h bu
    | _ => False
  | .iastore => match st with
    | .int v :: .int i :: .ref a :: r => hK h a = 1 ∧ vp_in i (hN h a) ∧ go nx L r (sI h a i.toNatClampNeg v) bu
    | _ => False
  | .sastore => match st with
    | .int v :: .int i :: .ref a :: r => hK h a = 3 ∧ vp_in i (hN h a) ∧ go nx L r (sI h a i.toNatClampNeg v.toInt16.toInt32) bu
    | _ => False
  | .bastore => match st with
    | .int v :: .int i :: .ref a :: r => hK h a = 4 ∧ vp_in i (hN h a) ∧ go nx L r (sI h a i.toNatClampNeg (v &&& 1)) bu
    | _ => False
  | .lastore => match st with
    | .long v :: .int i :: .ref a :: r => hK h a = 2 ∧ vp_in i (hN h a) ∧ go nx L r (sJ h a i.toNatClampNeg v) bu
    | _ => False
  | .aastore => match st with
    | .ref v :: .int i :: .ref a :: r => ((hK h a = 5 ∧ hK h v = 15) ∨ (hK h a = 6 ∧ hK h v = 26)) ∧ vp_in i (hN h a) ∧ go nx L r (sR h a i.toNatClampNeg (some v)) bu
    | _ => False
  | .arraylength => match st with
    | .ref a :: r => ((1 ≤ hK h a ∧ hK h a ≤ 7)) ∧ go nx L (.int (Int32.ofNat (hN h a)) :: r) h bu
    | _ => False
  | .getfield _ => match st with
    | .ref a :: r => hK h a = 10 + a1 ∧ (match c1 with
      | 0 => go nx L (.int (hI h a b1) :: r) h bu
      | 1 => go nx L (.long (hJ h a b1) :: r) h bu
      | _ => ∃ q, hR h a b1 = some q ∧ go nx L (.ref q :: r) h bu)
    | _ => False
  | .putfield _ => match st with
    | .int v :: .ref a :: r => match c1 with
      | 0 => hK h a = 10 + a1 ∧ go nx L r (sI h a b1 v) bu
      | 3 => hK h a = 10 + a1 ∧ (v = 0 ∨ v = 1) ∧ go nx L r (sI h a b1 v) bu
      | _ => False
    | .long v :: .ref a :: r => match c1 with
      | 1 => hK h a = 10 + a1 ∧ go nx L r (sJ h a b1 v) bu
      | _ => False
    | .ref v :: .ref a :: r => match c1 with
      | 2 => hK h a = 10 + a1 ∧ go nx L r (sR h a b1 (some v)) bu
      | _ => False
    | _ => False
  | .new _ => match bu with
    | (bc, bs) => match Nat.ble 60 a1 with
      | false => (1 ≤ bc ∧ b1 ≤ bs) ∧ go nx L (.ref (hT h) :: st) (hNew h a1 0) (bc - 1, bs - b1)
      | true => match X.2.1, mj_wt st with
        | [], true => (1 ≤ bc ∧ b1 ≤ bs) ∧ Q (.threw (hT h)) (hNew h a1 0)
        | _, _ => False
  | .newarray _ => match st with
    | .int n :: r => match bu with
      | (bc, bs) => (¬ n < 0 ∧ n.toNatClampNeg ≤ 1000000 ∧ 1 ≤ bc ∧ n.toNatClampNeg ≤ bs) ∧ go nx L (.ref (hT h) :: r) (hNew h a1 n.toNatClampNeg) (bc - 1, bs - n.toNatClampNeg)
    | _ => False
  | .anewarray _ => match st with
    | .int n :: r => match bu with
      | (bc, bs) => (¬ n < 0 ∧ n.toNatClampNeg ≤ 1000000 ∧ 1 ≤ bc ∧ n.toNatClampNeg ≤ bs) ∧ go nx L (.ref (hT h) :: r) (hNew h a1 n.toNatClampNeg) (bc - 1, bs - n.toNatClampNeg)
    | _ => False
  | .invokevirtual _ => match st.drop b1 with
    | .ref a :: rest => match mj_wt rest with
      | true => hK h a = 10 + c1 ∧ mj_call G a1 (.ref a :: (st.take b1).reverse) h bu (mj_aft cd X.2.1 go Q pc nx L rest)
      | false => False
    | _ => False
  | .invokespecial _ => match c1 with
    | 0 => match st.drop b1 with
      | .ref a :: rest => match mj_wt rest with
        | true => mj_call G a1 (.ref a :: (st.take b1).reverse) h bu (mj_aft cd X.2.1 go Q pc nx L rest)
        | false => False
      | _ => False
    | _ => match st with
      | .ref _ :: rest => match mj_wt rest with
        | true => go nx L rest h bu
        | false => False
      | _ => False
  | .invokestatic _ => match c1 with
    | 0 => match mj_wt (st.drop b1) && Nat.ble b1 st.length with
      | true => mj_call G a1 (st.take b1).reverse h bu (mj_aft cd X.2.1 go Q pc nx L (st.drop b1))
      | false => False
    | _ => match st with
      | .int n :: .int dp :: .ref a :: .int sp :: .ref a0 :: rest => match mj_wt rest with
        | true => (hK h a = 1 ∧ hK h a0 = 1 ∧ a ≠ a0) ∧ (¬ sp < 0 ∧ ¬ dp < 0 ∧ ¬ n < 0 ∧ sp.toNatClampNeg + n.toNatClampNeg ≤ hN h a0 ∧ dp.toNatClampNeg + n.toNatClampNeg ≤ hN h a) ∧ go nx L rest (sW h a (va_cpy (h.1 a0) (h.1 a) sp.toNatClampNeg dp.toNatClampNeg n.toNatClampNeg)) bu
        | false => False
      | _ => False
  | .ireturn => match X.1, st with
    | 1, [.int v] => Q (.returned (some (.int v))) h
    | 4, [.int v] => (v = 0 ∨ v = 1) ∧ Q (.returned (some (.int v))) h
    | _, _ => False
  | .lreturn => match X.1, st with
    | 2, [.long v] => Q (.returned (some (.long v))) h
    | _, _ => False
  | .areturn => match X.1, st with
    | 3, [.ref v] => Q (.returned (some (.ref v))) h
    | _, _ => False
  | .return_ => match X.1, st with
    | 0, [] => Q (.returned none) h
    | _, _ => False
  | .athrow => match X.2.1, st with
    | [], .ref x :: _ => Q (.threw x) h
    | _, _ => False
  | .tableswitch _ lo hi _ => match st with
    | .int x :: r => (x.toInt < lo ∨ hi < x.toInt → go (cd.drop a1) L r h bu) ∧ ∀ k, k ≤ (hi - lo).toNat → x.toInt = lo + k → go (cd.drop (X.2.2.getD (b1 + k) 0)) L r h bu
    | _ => False
  | _ => False
def mj_step (G : mj_G) (X : mj_X) (cd : List mj_E) (go : mj_Wk) (Q : mj_Q) (e : mj_E) (nx : List mj_E) (L : mj_Ls) (st : List Value) (h : mj_H) (bu : Nat × Nat) : Prop := match e with
  | (pc, _, i, _, a1, b1, c1, cI, cJ) => match mj_alu i cI cJ st with
    | some st' => go nx L st' h bu
    | none => match mj_lds i cI L st with
      | some (L', st') => go nx L' st' h bu
      | none => match mj_cnd i st with
        | some (false, c, st') => (c → go (cd.drop a1) L st' h bu) ∧ (¬ c → go nx L st' h bu)
        | some (true, c, st') => (c → go nx L st' h bu) ∧ (¬ c → go (cd.drop a1) L st' h bu)
        | none => mj_hp G X cd go Q pc i a1 b1 c1 nx L st h bu
def mj_wp (G : mj_G) (X : mj_X) (cd : List mj_E) (K : mj_K) (Q : mj_Q) : Nat → mj_Wk
  | 0 => fun _ _ _ _ _ => False
  | n + 1 => fun cur L st h bu => match cur with
    | [] => False
    | e :: nx => mj_step G X cd (mj_go K (mj_wp G X cd K Q n)) Q e nx L st h bu
