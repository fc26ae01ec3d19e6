/-! the tables by number and place -/
def mj_tb (k : Nat) : List Cond := match k with
  | 0 => k2_sels lw_privs
  | 1 => tables_1_1
  | 2 => tables_1_2
  | 3 => tables_1_3
  | 4 => tables_1_4
  | 5 => tables_1_5
  | 6 => tables_1_6
  | 7 => tables_1_7
  | 8 => tables_1_8
  | 9 => tables_1_9
  | _ => []
theorem mj_tb_mem (k : Nat) {w : Cond} (h : w ∈ mj_tb k) : w ∈ lw_tbl := by
  unfold lw_tbl tables_1
  simp only [List.mem_append]
  unfold mj_tb at h
  split at h <;> first | (simp [h]; done) | cases h
def mj_at (w : Nat) : Option Cond := (mj_tb (w / 1000))[w % 1000]?
theorem mj_at_mem {w : Nat} {c : Cond} (h : mj_at w = some c) : c ∈ lw_tbl := mj_tb_mem _ (List.mem_of_getElem? h)
/-! THE MINI MACHINE: heaps as typed total functions, relative addresses, weakest preconditions over decoded code -/
/-- a heap: ints, longs, references by address and place; kind and length of each cell; how many cells -/
abbrev mj_H : Type := (Nat → Nat → Int32) × (Nat → Nat → Int64) × (Nat → Nat → Option Nat) × (Nat → Nat × Nat) × Nat
def mj_up {α : Type} (f : Nat → Nat → α) (a k : Nat) (v : α) : Nat → Nat → α := fun x y => if x = a ∧ y = k then v else f x y
def mj_row {α : Type} (f : Nat → Nat → α) (a : Nat) (g : Nat → α) : Nat → Nat → α := fun x y => if x = a then g y else f x y
abbrev hI (h : mj_H) (a k : Nat) : Int32 := h.1 a k
abbrev hJ (h : mj_H) (a k : Nat) : Int64 := h.2.1 a k
abbrev hR (h : mj_H) (a k : Nat) : Option Nat := h.2.2.1 a k
abbrev hK (h : mj_H) (a : Nat) : Nat := (h.2.2.2.1 a).1
abbrev hN (h : mj_H) (a : Nat) : Nat := (h.2.2.2.1 a).2
abbrev hT (h : mj_H) : Nat := h.2.2.2.2
def sI (h : mj_H) (a k : Nat) (v : Int32) : mj_H := (mj_up h.1 a k v, h.2.1, h.2.2.1, h.2.2.2.1, h.2.2.2.2)
def sJ (h : mj_H) (a k : Nat) (v : Int64) : mj_H := (h.1, mj_up h.2.1 a k v, h.2.2.1, h.2.2.2.1, h.2.2.2.2)
def sR (h : mj_H) (a k : Nat) (v : Option Nat) : mj_H := (h.1, h.2.1, mj_up h.2.2.1 a k v, h.2.2.2.1, h.2.2.2.2)
/-- a row of ints laid anew -/
def sW (h : mj_H) (a : Nat) (g : Nat → Int32) : mj_H := (mj_row h.1 a g, h.2.1, h.2.2.1, h.2.2.2.1, h.2.2.2.2)
/-- a new cell, of zeros -/
def hNew (h : mj_H) (kd n : Nat) : mj_H := (mj_row h.1 (hT h) (fun _ => 0), mj_row h.2.1 (hT h) (fun _ => 0), mj_row h.2.2.1 (hT h) (fun _ => none), (fun x => if x = hT h then (kd, n) else h.2.2.2.1 x), hT h + 1)
abbrev mj_rv (r : Option Nat) : Value := va_rf r
/-- what is fixed: the script's address, the last old address, the classes' numbers, the arrays' class numbers, the heap at the law's start, the launch, the script -/
abbrev mj_G : Type := Nat × Nat × va_G × (Nat → ClassId) × Heap × Launch × Nat × (Nat → Int32)
abbrev gb (G : mj_G) : Nat := G.1
abbrev gN (G : mj_G) : Nat := G.2.1
abbrev gD (G : mj_G) : va_G := G.2.2.1
abbrev gA (G : mj_G) : Nat → ClassId := G.2.2.2.1
abbrev gH (G : mj_G) : Heap := G.2.2.2.2.1
abbrev gl (G : mj_G) : Launch := G.2.2.2.2.2.1
abbrev gL (G : mj_G) : Nat := G.2.2.2.2.2.2.1
abbrev gx (G : mj_G) : Nat → Int32 := G.2.2.2.2.2.2.2
def mj_ad (G : mj_G) (k : Nat) : Nat := if k = 0 then gb G else gN G + k
def mj_sh (G : mj_G) (v : Value) : Value := match v with
  | .ref k => .ref (mj_ad G k)
  | v => v
theorem mj_sh_rf (G : mj_G) (r : Option Nat) : mj_sh G (va_rf r) = va_rf (r.map (mj_ad G)) := by cases r <;> rfl
theorem mj_sh_cat (G : mj_G) (v : Value) : (mj_sh G v).category = v.category := by cases v <;> rfl
/-- a field's kind by its descriptor: 1 a long, 0 an int (or smaller), 2 a reference -/
def mj_tc (d : String) : Nat := if d = "J" then 1 else if d = "I" ∨ d = "Z" then 0 else 2
def mj_fv (h : mj_H) (k j c : Nat) : Value := if c = 1 then .long (hJ h k j) else if c = 0 then .int (hI h k j) else va_rf (hR h k j)
abbrev mj_tys (G : mj_G) : List (ClassId × FieldType) := [(gA G 1, .int), (gA G 2, .long), (gA G 3, .short), (gA G 4, .boolean), (gA G 5, .object "FormHouse$Whole"), (gA G 6, .object "FormHouse$Pair")]
/-- a cell of the machine holds a cell of the mini heap -/
def mj_C (G : mj_G) (h : mj_H) (H : Heap) (k : Nat) : Prop :=
  (hK h k ≠ 0 → k < hT h) ∧ (hK h k ≠ 0 → hK h k ≠ 7 → k ≠ 0) ∧
  (hK h k = 1 ∨ hK h k = 3 ∨ hK h k = 4 → H[mj_ad G k]? = some (arrV (gA G (hK h k)) (hN h k) (fun j => .int (hI h k j)))) ∧
  (hK h k = 2 → H[mj_ad G k]? = some (arrV (gA G 2) (hN h k) (fun j => .long (hJ h k j)))) ∧
  (hK h k = 5 ∨ hK h k = 6 → H[mj_ad G k]? = some (arrV (gA G (hK h k)) (hN h k) (fun j => va_rf ((hR h k j).map (mj_ad G))))) ∧
  (hK h k = 7 → k = 0 ∧ hN h 0 = gL G ∧ ∀ j, hI h 0 j = gx G j) ∧
  (∀ ci r, hK h k = 10 + ci → mj_cl[ci]? = some r → t_OB (mj_ad G k) ((gD G).1 ci) r.2.2 ((gD G).2 ci) H (fun j => mj_sh G (mj_fv h k j (mj_tc (r.2.1 j).2.2.1)))) ∧
  (∀ ci, hK h k = 60 + ci → ∃ cell : Cell, H[mj_ad G k]? = some cell ∧ cell.cls = (gD G).1 ci ∧ cell.vm = .none) ∧
  (k ≠ 0 → ∀ cell : Cell, H[mj_ad G k]? = some cell → cell.vm.isStatics = false)
/-- the heap of the machine holds the mini heap -/
def mj_P (G : mj_G) (h : mj_H) (H : Heap) : Prop := (H.size = gN G + hT h ∧ 0 < hT h ∧ ∀ q, q ≤ gN G → H[q]? = (gH G)[q]?) ∧ ∀ k, mj_C G h H k
/-- the words of the tables that hold at every state of the run -/
def mj_good (w : Cond) : Bool := (w.onTables && w.keeps) || (match w with
  | .fieldLinkNest .. => true
  | .methodLinkNest .. => true
  | .arrayClass _ => true
  | .arrayOver (.object _) => true
  | _ => false)
def mj_TW (U : State) : Prop := ∀ w ∈ lw_tbl, mj_good w = true → w.before #[] U = true
theorem mj_word_use {w : Cond} (hg : mj_good w = true) {U : State} {A : Array Value} (h : w.before #[] U = true) : w.before A U = true := by
  by_cases ho : w.onTables = true
  · exact va_tabs ho rfl h
  · cases w <;> first | (exact absurd rfl ho) | (simp [mj_good, Cond.onTables] at hg; done) | exact h
theorem mj_word_warm {w : Cond} (hg : mj_good w = true) {s U : State} (hW : s.WarmedH U.vm) (h : w.before #[] s = true) : w.before #[] U = true := by
  by_cases hk : (w.onTables && w.keeps) = true
  · exact word_at hW (Or.inl hk) h
  · cases w with
    | fieldLinkNest a i b n d x => exact va_Nw.warmF hW h
    | methodLinkNest a i y x => exact va_Nw.warmM hW h
    | arrayClass ty => exact word_at hW (Or.inr ⟨ty, rfl⟩) h
    | arrayOver ty =>
      cases ty with
      | object C => exact va_AO.use (va_AO.moved hW.alike (va_AO.of h))
      | _ => simp [mj_good, hk] at hg
    | _ => simp [mj_good, hk] at hg
theorem mj_TW.warm {s U : State} (hW : s.WarmedH U.vm) (h : mj_TW s) : mj_TW U := fun w hw hg => mj_word_warm hg hW (h w hw hg)
theorem mj_TW.use {s : State} (h : mj_TW s) {w : Cond} (hw : w ∈ lw_tbl) (hg : mj_good w = true) (A : Array Value) : w.before A s = true := mj_word_use hg (h w hw hg)
/-! exceptions: the words of the three classes -/
def mj_xC (C : String) : List Cond := Bundle.throwableAtoms ++ Bundle.chain0Atoms C ["java/lang/RuntimeException", "java/lang/Exception"] ++
  [.instantiable C 6, .castable C C, .selects C Bundle.tFill0 Bundle.tFill0, .selects C Bundle.tFill Bundle.tFill,
   .lays C Bundle.tN "cause" "Ljava/lang/Throwable;", .lays C Bundle.tN "stackTrace" Bundle.steD, .lays C Bundle.tN "suppressedExceptions" Bundle.listD, .lays C Bundle.tN "detailMessage" "Ljava/lang/String;",
   .isRef (.static Bundle.tN "UNASSIGNED_STACK" Bundle.steD), .isRef (.static Bundle.tN "SUPPRESSED_SENTINEL" Bundle.listD),
   .fieldLink Bundle.tN 198 Bundle.tN "backtrace" "Ljava/lang/Object;", .lays Bundle.tN Bundle.tN "backtrace" "Ljava/lang/Object;", .lays C Bundle.tN "backtrace" "Ljava/lang/Object;"]
def mj_xE : List String := ["java/lang/IllegalStateException", "java/lang/IllegalArgumentException", "java/lang/IndexOutOfBoundsException"]
def mj_xN : List Cond := [.not (.castable "java/lang/IllegalStateException" "java/lang/IllegalArgumentException"), .not (.castable "java/lang/IllegalStateException" "java/lang/IndexOutOfBoundsException"),
  .not (.castable "java/lang/IllegalArgumentException" "java/lang/IllegalStateException"), .not (.castable "java/lang/IllegalArgumentException" "java/lang/IndexOutOfBoundsException"),
  .not (.castable "java/lang/IndexOutOfBoundsException" "java/lang/IllegalStateException"), .not (.castable "java/lang/IndexOutOfBoundsException" "java/lang/IllegalArgumentException")]
def mj_xs : List Cond := mj_xC "java/lang/IllegalStateException" ++ (mj_xC "java/lang/IllegalArgumentException" ++ (mj_xC "java/lang/IndexOutOfBoundsException" ++ mj_xN))
/-- a word that moves with the tables -/
def mj_mv (w : Cond) : Bool := w.keepsCast || (match w with
  | .castable .. => true
  | _ => false)
theorem mj_xs_mv : mj_xs.all mj_mv = true := by decide +kernel
theorem mj_mv_ok {w : Cond} (hw : mj_mv w = true) {s : State} {vm' : Vm} (hS : s.Shifted vm') (h : w.before #[] s = true) : w.before #[] (s.setVm vm') = true := by
  unfold mj_mv at hw
  rw [Bool.or_eq_true] at hw
  rcases hw with hw | hw
  · exact Cond.before_shiftedCast hS w hw h
  · cases w with
    | castable a b => rw [Cond.castable_setVm hS.1]; exact h
    | _ => cases hw
/-- the exceptions' words hold, on the old heap -/
def mj_EX (G : mj_G) (U : State) : Prop := (∃ S0 : State, S0.heap = gH G ∧ ∀ w ∈ mj_xs, w.before #[] (S0.setVm U.vm) = true) ∧ (gH G).size = gN G + 1 ∧ (gl G).flags = flags0
theorem mj_EX.warm {G : mj_G} {s U : State} (hW : s.WarmedH U.vm) (h : mj_EX G s) : mj_EX G U := by
  obtain ⟨⟨S0, h1, h2⟩, h3⟩ := h
  refine ⟨⟨S0, h1, fun w hw => ?_⟩, h3⟩
  have hS : (S0.setVm s.vm).Shifted U.vm := State.Shifted.of_warmed (s := S0.setVm s.vm) hW
  exact mj_mv_ok (s := S0.setVm s.vm) (List.all_eq_true.mp mj_xs_mv w hw) hS (h2 w hw)
theorem mj_EX.vm {G : mj_G} {s U : State} (e : s.vm = U.vm) (h : mj_EX G s) : mj_EX G U := by
  unfold mj_EX at h ⊢
  rw [← e]
  exact h
/-- what holds of the tables, and of the old heap, at every state of the run -/
def mj_KK (G : mj_G) (U : State) : Prop := va_K (gD G) mj_cl (mj_tys G) U ∧ mj_TW U ∧ (va_X (gb G) (gL G) (gx G) U (gH G) ∧ mj_EX G U) ∧ gb G ≤ gN G
theorem mj_KK.warm {G : mj_G} {s U : State} (hW : s.WarmedH U.vm) (h : mj_KK G s) : mj_KK G U := ⟨va_K.moved hW.alike h.1, h.2.1.warm hW, ⟨va_X.moved hW.alike h.2.2.1.1, h.2.2.1.2.warm hW⟩, h.2.2.2⟩
theorem mj_TW.vm {s U : State} (e : s.vm = U.vm) (h : mj_TW s) : mj_TW U := by
  intro w hw hg
  by_cases ho : w.onTables = true
  · exact va_tabs ho e (h w hw hg)
  · have h1 := h w hw hg
    cases w <;> first | (exact absurd rfl ho) | (simp [mj_good, Cond.onTables] at hg; done) | (simp only [Cond.before, Cond.holds, Cond.value] at h1 ⊢; rw [← e]; exact h1)
theorem mj_KK.vm {G : mj_G} {s U : State} (e : s.vm = U.vm) (h : mj_KK G s) : mj_KK G U :=
  ⟨va_K.moved (by rw [e]; exact Vm.Alike.refl _) h.1, h.2.1.vm e, ⟨va_X.moved (by rw [e]; exact Vm.Alike.refl _) h.2.2.1.1, h.2.2.1.2.vm e⟩, h.2.2.2⟩
/-- the exceptions' words at a state whose heap holds the old one -/
theorem mj_EX.use {G : mj_G} {s : State} (h : mj_EX G s) (hq : ∀ q, q ≤ gN G → s.heap[q]? = (gH G)[q]?) (A : Array Value) : ∀ w ∈ mj_xs, w.before A s = true := by
  intro w hw
  obtain ⟨⟨S0, h1, h2⟩, h3, -⟩ := h
  have hb := h2 w hw
  have hst : ∀ (a : Nat) (cell : Cell), (gH G)[a]? = some cell → s.heap[a]? = some cell := by
    intro a cell ha
    have : a < (gH G).size := (Array.getElem?_eq_some_iff.mp ha).1
    rw [hq a (by omega)]
    exact ha
  by_cases ho : w.onTables = true
  · exact va_tabs (u := S0.setVm s.vm) ho rfl hb
  · have hc : (w = .laysStatic Bundle.tN "UNASSIGNED_STACK" Bundle.steD ∨ w = .laysStatic Bundle.tN "SUPPRESSED_SENTINEL" Bundle.listD) ∨ (w = .isRef (.static Bundle.tN "UNASSIGNED_STACK" Bundle.steD) ∨ w = .isRef (.static Bundle.tN "SUPPRESSED_SENTINEL" Bundle.listD)) ∨ ∃ a b, w = .not (.castable a b) := by
      have hall : mj_xs.all (fun w => w.onTables || (decide (w = .laysStatic Bundle.tN "UNASSIGNED_STACK" Bundle.steD) || decide (w = .laysStatic Bundle.tN "SUPPRESSED_SENTINEL" Bundle.listD) || decide (w = .isRef (.static Bundle.tN "UNASSIGNED_STACK" Bundle.steD)) || decide (w = .isRef (.static Bundle.tN "SUPPRESSED_SENTINEL" Bundle.listD)) || (match w with
        | .not (.castable _ _) => true
        | _ => false))) = true := by decide +kernel
      have h4 := List.all_eq_true.mp hall w hw
      rw [Bool.or_eq_true] at h4
      rcases h4 with h4 | h4
      · exact absurd h4 ho
      · simp only [Bool.or_eq_true, decide_eq_true_eq] at h4
        rcases h4 with (((h4 | h4) | h4) | h4) | h4
        · exact Or.inl (Or.inl h4)
        · exact Or.inl (Or.inr h4)
        · exact Or.inr (Or.inl (Or.inl h4))
        · exact Or.inr (Or.inl (Or.inr h4))
        · refine Or.inr (Or.inr ?_)
          split at h4
          · exact ⟨_, _, rfl⟩
          · cases h4
    have key1 : ∀ C n d, (Cond.laysStatic C n d).before #[] (S0.setVm s.vm) = true → (Cond.laysStatic C n d).before A s = true := by
      intro C n d hl
      obtain ⟨c, k, i, f, a, cell, g1, g2, g3, g4, g5, g6, g7, g8, g9⟩ := Cond.laysStatic_spec hl
      have g5' := hst a cell (by rw [← h1]; exact g5)
      have g1' : s.vm.findClass C = some c := g1
      have g2' : s.fieldFound? C n d = some (c, k, i, f) := g2
      simp [Cond.before, Cond.holds, Cond.value, g1', g2', g3, g4, g5', g6, g7, g8, g9]
    have key2 : ∀ C n d, (Cond.isRef (.static C n d)).before #[] (S0.setVm s.vm) = true → (Cond.isRef (.static C n d)).before A s = true := by
      intro C n d hl
      cases hv : (Term.static C n d).eval #[] (S0.setVm s.vm) none [] (S0.setVm s.vm) with
      | none => simp [Cond.before, Cond.holds, Cond.value, hv] at hl
      | some v =>
        have e2 : (Term.static C n d).eval A s none [] s = some v := by
          cases hf : (S0.setVm s.vm).fieldFound? C n d with
          | none => simp [Term.eval, State.fieldNamed?, hf] at hv
          | some x =>
            obtain ⟨c, k, i, f⟩ := x
            obtain ⟨g1, a, cell, g2, g3, g4, g5⟩ := Term.static_spec hf hv
            have g3' := hst a cell (by rw [← h1]; exact g3)
            have hf' : s.fieldFound? C n d = some (c, k, i, f) := hf
            have hv2 := hv
            have g3o : S0.heap[a]? = some cell := g3
            simp [Term.eval, State.fieldNamed?, hf, g1, g2, g3o, g5] at hv2
            simp [Term.eval, State.fieldNamed?, hf', g1, g2, g3', g5]
            exact hv2
        simp only [Cond.before, Cond.holds, Cond.value, hv] at hl
        simp only [Cond.before, Cond.holds, Cond.value, e2]
        exact hl
    rcases hc with (rfl | rfl) | (rfl | rfl) | ⟨a, b, rfl⟩
    · exact key1 _ _ _ hb
    · exact key1 _ _ _ hb
    · exact key2 _ _ _ hb
    · exact key2 _ _ _ hb
    · simp only [Cond.before, Cond.holds, Cond.value] at hb ⊢
      exact hb
