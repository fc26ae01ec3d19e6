/-! the constructors at their addresses (printed by gen/ctor.py) -/
theorem or_st {a b c d : Prop} (h : b → c ∨ d) : a ∨ b → (a ∨ c) ∨ d
  | .inl x => .inl (.inl x)
  | .inr y => (h y).imp .inr id
theorem eq_lt {x C t : Nat} (h : x = C) (g : C < t) : x < t := h ▸ g
theorem or_e {a b c : Prop} (f : a → c) (g : b → c) : a ∨ b → c
  | .inl x => f x
  | .inr y => g y
theorem and_st {a b c d : Prop} (h : b → c ∨ d) (z : a ∧ b) : (a ∧ c) ∨ (a ∧ d) := (h z.2).imp (fun y => ⟨z.1, y⟩) (fun y => ⟨z.1, y⟩)
theorem pre_st {b Z P e f : Prop} (h : Z → (P ∨ e) ∨ f) : b ∨ Z → ((b ∨ P) ∨ e) ∨ f
  | .inl x => .inl (.inl (.inl x))
  | .inr y => (h y).imp (fun u => u.imp .inr id) id
theorem mono_s3 {C x t t' : Nat} {D D' d : Prop} (h : D → D' ∨ d) (z : (C < x ∧ x < t') ∨ (x = C ∧ D)) : (((C < x ∧ x < t) ∨ (x = C ∧ D')) ∨ (t ≤ x ∧ x < t')) ∨ (x = C ∧ d) := by
  rcases z with z | z
  · rcases Nat.lt_or_ge x t with y | y
    · exact .inl (.inl (.inl ⟨z.1, y⟩))
    · exact .inl (.inr ⟨y, z.2⟩)
  · rcases h z.2 with y | y
    · exact .inl (.inl (.inr ⟨z.1, y⟩))
    · exact .inr ⟨z.1, y⟩
theorem fin_s {C x T : Nat} {D : Prop} (h : x = C → D) (z : C ≤ x ∧ x < T) : (C < x ∧ x < T) ∨ (x = C ∧ D) := by
  rcases Nat.lt_or_ge C x with y | y
  · exact .inl ⟨y, z.2⟩
  · have e : x = C := Nat.le_antisymm y z.1
    exact .inr ⟨e, h e⟩
theorem mono_s2 {C x t : Nat} {D D' d : Prop} (h : D → D' ∨ d) (z : (C < x ∧ x < t + 1) ∨ (x = C ∧ D)) : (((C < x ∧ x < t) ∨ (x = C ∧ D')) ∨ x = t) ∨ (x = C ∧ d) := by
  rcases z with z | z
  · rcases (show x < t ∨ x = t by omega) with y | y
    · exact .inl (.inl (.inl ⟨z.1, y⟩))
    · exact .inl (.inr y)
  · rcases h z.2 with y | y
    · exact .inl (.inl (.inr ⟨z.1, y⟩))
    · exact .inr ⟨z.1, y⟩
theorem lyr_3 : ∀ {y q : Nat}, lyR2 3 y = some q → y = 0 ∨ y = 2 ∨ y = 3 := by
  intro y q e
  have h1 := lkp_mem (show lkp [(0, 4), (2, 5), (3, 6)] y = some q from e)
  simp only [List.mem_cons, Prod.mk.injEq, List.not_mem_nil, or_false] at h1
  omega
/-- FormHouse$Reckoner.<init>()V; cuts at [4, 13, 22, 31] -/
def cd_3 : List mj_E := [(0, false, .aload_n 0, 1, 0, 0, 0, 0, 0),
  (1, false, .invokespecial 3, 3, 0, 0, 1, 0, 0),
  (4, true, .aload_n 0, 1, 0, 0, 0, 0, 0),
  (5, false, .sipush 2048, 3, 0, 0, 0, jI 2048, 0),
  (8, false, .newarray .int, 2, 1, 0, 0, 0, 0),
  (10, false, .putfield 9, 3, 2, 0, 2, 0, 0),
  (13, true, .aload_n 0, 1, 0, 0, 0, 0, 0),
  (14, false, .sipush 1025, 3, 0, 0, 0, jI 1025, 0),
  (17, false, .newarray .int, 2, 1, 0, 0, 0, 0),
  (19, false, .putfield 15, 3, 2, 2, 2, 0, 0),
  (22, true, .aload_n 0, 1, 0, 0, 0, 0, 0),
  (23, false, .sipush 1024, 3, 0, 0, 0, jI 1024, 0),
  (26, false, .newarray .int, 2, 1, 0, 0, 0, 0),
  (28, false, .putfield 18, 3, 2, 3, 2, 0, 0),
  (31, true, .return_, 1, 0, 0, 0, 0, 0)]
def cx_3 : mj_X := (0, [], [])
theorem tb_3 : mj_tab (mj_mt 3) cx_3 cd_3 mj_mh [(0, 0, 0), (1049, 1036, 1037), (0, 0, 0), (0, 0, 0), (1063, 0, 0), (1050, 0, 0), (0, 0, 0), (0, 0, 0), (1063, 0, 0), (1052, 0, 0), (0, 0, 0), (0, 0, 0), (1063, 0, 0), (1053, 0, 0), (0, 0, 0)] = true := mj_tab_f (by decide +kernel)
theorem ct_3_3 (G : mj_G) {zx : (Nat → Int32) × Nat} {h : mj_H} {a' : Nat} (ea : a' = 3) (c : Cb zx 4 (fun x y => (1 < x ∧ x < 2) ∨ (2 < x ∧ x < 3)) h) : mj_Ct G (mj_mt 3) 3 4097 [Value.ref a'] h (fun o h' => o = .returned none ∧ Cb zx 7 (fun x y => (1 < x ∧ x < 2) ∨ (2 < x ∧ x < 3) ∨ (3 ≤ x ∧ x < 7)) h') := by
  subst ea
  refine mj_Ct_of mj_ok tb_3 rfl rfl (Nat.le_of_ble_eq_true rfl) (fun Run hR => ?_)
  have r31 : ∀ (h' : mj_H), Cb zx 7 (fun x y => (1 < x ∧ x < 2) ∨ (2 < x ∧ x < 3) ∨ (3 < x ∧ x < 7) ∨ (x = 3 ∧ (y = 0 ∨ y = 2 ∨ y = 3))) h' → Run 31 [some (.ref 3)] [] h' (0, 0) := by
    intro h'  c
    refine hR 60 14 _ _ _ _ _ _ rfl ?_
    refine ⟨rfl, c.mono (fun x y q e z => ?_)⟩
    exact (Or.imp id (Or.imp id (fin_s (fun hx => by subst hx; exact lyr_3 e)))) z
  have r22 : ∀ (h' : mj_H), Cb zx 6 (fun x y => (1 < x ∧ x < 2) ∨ (2 < x ∧ x < 3) ∨ (3 < x ∧ x < 6) ∨ (x = 3 ∧ (y = 0 ∨ y = 2))) h' → Run 22 [some (.ref 3)] [] h' (1, 1024) := by
    intro h'  c
    refine hR 60 10 _ _ _ _ _ _ rfl ?_
    have c1 := c.newL (kd := 1) (n := (jI 1024).toNatClampNeg) (fun x y p => (or_e (fun z => Nat.lt_of_lt_of_le z.2 (by decide)) (or_e (fun z => Nat.lt_of_lt_of_le z.2 (by decide)) (or_e (fun z => Nat.lt_of_lt_of_le z.2 (by decide)) (fun z => eq_lt z.1 (by decide))))) p) rfl rfl
    exact ⟨⟨by decide, by decide, Nat.le_of_ble_eq_true rfl, Nat.le_of_ble_eq_true rfl⟩, c1.K 3 rfl, r31 _ ((c1.ref c.1 rfl).mono (fun x y q _ z => (pre_st (pre_st (mono_s2 (or_st id)))) z))⟩
  have r13 : ∀ (h' : mj_H), Cb zx 5 (fun x y => (1 < x ∧ x < 2) ∨ (2 < x ∧ x < 3) ∨ (3 < x ∧ x < 5) ∨ (x = 3 ∧ (y = 0))) h' → Run 13 [some (.ref 3)] [] h' (2, 2049) := by
    intro h'  c
    refine hR 60 6 _ _ _ _ _ _ rfl ?_
    have c1 := c.newL (kd := 1) (n := (jI 1025).toNatClampNeg) (fun x y p => (or_e (fun z => Nat.lt_of_lt_of_le z.2 (by decide)) (or_e (fun z => Nat.lt_of_lt_of_le z.2 (by decide)) (or_e (fun z => Nat.lt_of_lt_of_le z.2 (by decide)) (fun z => eq_lt z.1 (by decide))))) p) rfl rfl
    exact ⟨⟨by decide, by decide, Nat.le_of_ble_eq_true rfl, Nat.le_of_ble_eq_true rfl⟩, c1.K 3 rfl, r22 _ ((c1.ref c.1 rfl).mono (fun x y q _ z => (pre_st (pre_st (mono_s2 id))) z))⟩
  have r4 : ∀ (h' : mj_H), Cb zx 4 (fun x y => (1 < x ∧ x < 2) ∨ (2 < x ∧ x < 3) ∨ (3 < x ∧ x < 4)) h' → Run 4 [some (.ref 3)] [] h' (3, 4097) := by
    intro h'  c
    refine hR 60 2 _ _ _ _ _ _ rfl ?_
    have c1 := c.newL (kd := 1) (n := (jI 2048).toNatClampNeg) (fun x y p => (or_e (fun z => Nat.lt_of_lt_of_le z.2 (by decide)) (or_e (fun z => Nat.lt_of_lt_of_le z.2 (by decide)) (fun z => Nat.lt_of_lt_of_le z.2 (by decide)))) p) rfl rfl
    exact ⟨⟨by decide, by decide, Nat.le_of_ble_eq_true rfl, Nat.le_of_ble_eq_true rfl⟩, c1.K 3 rfl, r13 _ ((c1.ref c.1 rfl).mono (fun x y q _ z => by omega))⟩
  refine hR 60 0 _ _ _ _ _ _ rfl ?_
  exact r4 h (c.mono (fun x y q _ z => by omega))
theorem lyr_8 : ∀ {y q : Nat}, lyR2 8 y = some q → y = 0 ∨ y = 1 ∨ y = 2 ∨ y = 3 ∨ y = 4 ∨ y = 5 := by
  intro y q e
  have e' : (match Nat.blt y 6 with | true => some (8 + 1 + 2 * y) | false => none) = some q := e
  cases g : Nat.blt y 6 with
  | true =>
    have := Nat.le_of_ble_eq_true g
    omega
  | false =>
    rw [g] at e'
    cases e'
/-- FormHouse$Matrix.<init>()V; cuts at [4, 15, 26, 37, 48, 59, 70] -/
def cl_5_1 : List mj_E := (52, false, .dup, 1, 0, 0, 0, 0, 0) ::
  (53, false, .invokespecial 9, 3, 6, 0, 0, 0, 0) ::
  (56, false, .putfield 25, 3, 4, 4, 2, 0, 0) ::
  (59, true, .aload_n 0, 1, 0, 0, 0, 0, 0) ::
  (60, false, .new 7, 3, 15, 3, 0, 0, 0) ::
  (63, false, .dup, 1, 0, 0, 0, 0, 0) ::
  (64, false, .invokespecial 9, 3, 6, 0, 0, 0, 0) ::
  (67, false, .putfield 28, 3, 4, 5, 2, 0, 0) ::
  (70, true, .return_, 1, 0, 0, 0, 0, 0) ::
  []
def cl_5_0 : List mj_E := (0, false, .aload_n 0, 1, 0, 0, 0, 0, 0) ::
  (1, false, .invokespecial 1, 3, 0, 0, 1, 0, 0) ::
  (4, true, .aload_n 0, 1, 0, 0, 0, 0, 0) ::
  (5, false, .new 7, 3, 15, 3, 0, 0, 0) ::
  (8, false, .dup, 1, 0, 0, 0, 0, 0) ::
  (9, false, .invokespecial 9, 3, 6, 0, 0, 0, 0) ::
  (12, false, .putfield 10, 3, 4, 0, 2, 0, 0) ::
  (15, true, .aload_n 0, 1, 0, 0, 0, 0, 0) ::
  (16, false, .new 7, 3, 15, 3, 0, 0, 0) ::
  (19, false, .dup, 1, 0, 0, 0, 0, 0) ::
  (20, false, .invokespecial 9, 3, 6, 0, 0, 0, 0) ::
  (23, false, .putfield 16, 3, 4, 1, 2, 0, 0) ::
  (26, true, .aload_n 0, 1, 0, 0, 0, 0, 0) ::
  (27, false, .new 7, 3, 15, 3, 0, 0, 0) ::
  (30, false, .dup, 1, 0, 0, 0, 0, 0) ::
  (31, false, .invokespecial 9, 3, 6, 0, 0, 0, 0) ::
  (34, false, .putfield 19, 3, 4, 2, 2, 0, 0) ::
  (37, true, .aload_n 0, 1, 0, 0, 0, 0, 0) ::
  (38, false, .new 7, 3, 15, 3, 0, 0, 0) ::
  (41, false, .dup, 1, 0, 0, 0, 0, 0) ::
  (42, false, .invokespecial 9, 3, 6, 0, 0, 0, 0) ::
  (45, false, .putfield 22, 3, 4, 3, 2, 0, 0) ::
  (48, true, .aload_n 0, 1, 0, 0, 0, 0, 0) ::
  (49, false, .new 7, 3, 15, 3, 0, 0, 0) ::
  cl_5_1
def cd_5 : List mj_E := cl_5_0
def cx_5 : mj_X := (0, [], [])
theorem tb_5 : mj_tab (mj_mt 5) cx_5 cd_5 mj_mh [(0, 0, 0), (1090, 1036, 1037), (0, 0, 0), (1091, 1092, 1006), (0, 0, 0), (1093, 0, 0), (1120, 0, 0), (0, 0, 0), (1091, 1092, 1006), (0, 0, 0), (1093, 0, 0), (1124, 0, 0), (0, 0, 0), (1091, 1092, 1006), (0, 0, 0), (1093, 0, 0), (1127, 0, 0), (0, 0, 0), (1091, 1092, 1006), (0, 0, 0), (1093, 0, 0), (1131, 0, 0), (0, 0, 0), (1091, 1092, 1006), (0, 0, 0), (1093, 0, 0), (1135, 0, 0), (0, 0, 0), (1091, 1092, 1006), (0, 0, 0), (1093, 0, 0), (1136, 0, 0), (0, 0, 0)] = true := mj_tab_f (by decide +kernel)
theorem ct_5_8 (G : mj_G) {zx : (Nat → Int32) × Nat} {h : mj_H} {a' : Nat} (ea : a' = 8) (c : Cb zx 9 (fun x y => (1 < x ∧ x < 2) ∨ (2 < x ∧ x < 8) ∨ (x = 2 ∧ (y = 0 ∨ y = 1))) h) : mj_Ct G (mj_mt 5) 12 6162 [Value.ref a'] h (fun o h' => o = .returned none ∧ Cb zx 21 (fun x y => (1 < x ∧ x < 2) ∨ (2 < x ∧ x < 8) ∨ (x = 2 ∧ (y = 0 ∨ y = 1)) ∨ (8 ≤ x ∧ x < 21)) h') := by
  subst ea
  refine mj_Ct_of mj_ok tb_5 rfl rfl (Nat.le_of_ble_eq_true rfl) (fun Run hR => ?_)
  have r70 : ∀ (h' : mj_H), Cb zx 21 (fun x y => (1 < x ∧ x < 2) ∨ (2 < x ∧ x < 8) ∨ (x = 2 ∧ (y = 0 ∨ y = 1)) ∨ (8 < x ∧ x < 21) ∨ (x = 8 ∧ (y = 0 ∨ y = 1 ∨ y = 2 ∨ y = 3 ∨ y = 4 ∨ y = 5))) h' → Run 70 [some (.ref 8)] [] h' (0, 0) := by
    intro h'  c
    refine hR 60 32 _ _ _ _ _ _ rfl ?_
    refine ⟨rfl, c.mono (fun x y q e z => ?_)⟩
    exact (Or.imp id (Or.imp id (Or.imp id (fin_s (fun hx => by subst hx; exact lyr_8 e))))) z
  have r59 : ∀ (h' : mj_H), Cb zx 19 (fun x y => (1 < x ∧ x < 2) ∨ (2 < x ∧ x < 8) ∨ (x = 2 ∧ (y = 0 ∨ y = 1)) ∨ (8 < x ∧ x < 19) ∨ (x = 8 ∧ (y = 0 ∨ y = 1 ∨ y = 2 ∨ y = 3 ∨ y = 4))) h' → Run 59 [some (.ref 8)] [] h' (2, 1027) := by
    intro h'  c
    refine hR 60 27 _ _ _ _ _ _ rfl ?_
    refine ⟨⟨Nat.le_of_ble_eq_true rfl, Nat.le_of_ble_eq_true rfl⟩, jcallB (ct_6 G c.1 (a := 19) ⟨rfl, rfl, rfl, rfl⟩ (fun x y p => (or_e (fun z => Nat.lt_of_lt_of_le z.2 (by decide)) (or_e (fun z => Nat.lt_of_lt_of_le z.2 (by decide)) (or_e (fun z => eq_lt z.1 (by decide)) (or_e (fun z => Nat.lt_of_lt_of_le z.2 (by decide)) (fun z => eq_lt z.1 (by decide)))))) p) (c.new (kd := 15) (n := 0) (fun x y p => (or_e (fun z => Nat.lt_of_lt_of_le z.2 (by decide)) (or_e (fun z => Nat.lt_of_lt_of_le z.2 (by decide)) (or_e (fun z => eq_lt z.1 (by decide)) (or_e (fun z => Nat.lt_of_lt_of_le z.2 (by decide)) (fun z => eq_lt z.1 (by decide)))))) p) rfl rfl)) rfl rfl ?_⟩
    intro h2 c2
    exact ⟨c2.K 8 rfl, r70 _ ((c2.ref c.1 rfl).mono (fun x y q _ z => (pre_st (pre_st (pre_st (mono_s3 (or_st (or_st (or_st (or_st id)))))))) z))⟩
  have r48 : ∀ (h' : mj_H), Cb zx 17 (fun x y => (1 < x ∧ x < 2) ∨ (2 < x ∧ x < 8) ∨ (x = 2 ∧ (y = 0 ∨ y = 1)) ∨ (8 < x ∧ x < 17) ∨ (x = 8 ∧ (y = 0 ∨ y = 1 ∨ y = 2 ∨ y = 3))) h' → Run 48 [some (.ref 8)] [] h' (4, 2054) := by
    intro h'  c
    refine hR 60 22 _ _ _ _ _ _ rfl ?_
    refine ⟨⟨Nat.le_of_ble_eq_true rfl, Nat.le_of_ble_eq_true rfl⟩, jcallB (ct_6 G c.1 (a := 17) ⟨rfl, rfl, rfl, rfl⟩ (fun x y p => (or_e (fun z => Nat.lt_of_lt_of_le z.2 (by decide)) (or_e (fun z => Nat.lt_of_lt_of_le z.2 (by decide)) (or_e (fun z => eq_lt z.1 (by decide)) (or_e (fun z => Nat.lt_of_lt_of_le z.2 (by decide)) (fun z => eq_lt z.1 (by decide)))))) p) (c.new (kd := 15) (n := 0) (fun x y p => (or_e (fun z => Nat.lt_of_lt_of_le z.2 (by decide)) (or_e (fun z => Nat.lt_of_lt_of_le z.2 (by decide)) (or_e (fun z => eq_lt z.1 (by decide)) (or_e (fun z => Nat.lt_of_lt_of_le z.2 (by decide)) (fun z => eq_lt z.1 (by decide)))))) p) rfl rfl)) rfl rfl ?_⟩
    intro h2 c2
    exact ⟨c2.K 8 rfl, r59 _ ((c2.ref c.1 rfl).mono (fun x y q _ z => (pre_st (pre_st (pre_st (mono_s3 (or_st (or_st (or_st id))))))) z))⟩
  have r37 : ∀ (h' : mj_H), Cb zx 15 (fun x y => (1 < x ∧ x < 2) ∨ (2 < x ∧ x < 8) ∨ (x = 2 ∧ (y = 0 ∨ y = 1)) ∨ (8 < x ∧ x < 15) ∨ (x = 8 ∧ (y = 0 ∨ y = 1 ∨ y = 2))) h' → Run 37 [some (.ref 8)] [] h' (6, 3081) := by
    intro h'  c
    refine hR 60 17 _ _ _ _ _ _ rfl ?_
    refine ⟨⟨Nat.le_of_ble_eq_true rfl, Nat.le_of_ble_eq_true rfl⟩, jcallB (ct_6 G c.1 (a := 15) ⟨rfl, rfl, rfl, rfl⟩ (fun x y p => (or_e (fun z => Nat.lt_of_lt_of_le z.2 (by decide)) (or_e (fun z => Nat.lt_of_lt_of_le z.2 (by decide)) (or_e (fun z => eq_lt z.1 (by decide)) (or_e (fun z => Nat.lt_of_lt_of_le z.2 (by decide)) (fun z => eq_lt z.1 (by decide)))))) p) (c.new (kd := 15) (n := 0) (fun x y p => (or_e (fun z => Nat.lt_of_lt_of_le z.2 (by decide)) (or_e (fun z => Nat.lt_of_lt_of_le z.2 (by decide)) (or_e (fun z => eq_lt z.1 (by decide)) (or_e (fun z => Nat.lt_of_lt_of_le z.2 (by decide)) (fun z => eq_lt z.1 (by decide)))))) p) rfl rfl)) rfl rfl ?_⟩
    intro h2 c2
    exact ⟨c2.K 8 rfl, r48 _ ((c2.ref c.1 rfl).mono (fun x y q _ z => (pre_st (pre_st (pre_st (mono_s3 (or_st (or_st id)))))) z))⟩
  have r26 : ∀ (h' : mj_H), Cb zx 13 (fun x y => (1 < x ∧ x < 2) ∨ (2 < x ∧ x < 8) ∨ (x = 2 ∧ (y = 0 ∨ y = 1)) ∨ (8 < x ∧ x < 13) ∨ (x = 8 ∧ (y = 0 ∨ y = 1))) h' → Run 26 [some (.ref 8)] [] h' (8, 4108) := by
    intro h'  c
    refine hR 60 12 _ _ _ _ _ _ rfl ?_
    refine ⟨⟨Nat.le_of_ble_eq_true rfl, Nat.le_of_ble_eq_true rfl⟩, jcallB (ct_6 G c.1 (a := 13) ⟨rfl, rfl, rfl, rfl⟩ (fun x y p => (or_e (fun z => Nat.lt_of_lt_of_le z.2 (by decide)) (or_e (fun z => Nat.lt_of_lt_of_le z.2 (by decide)) (or_e (fun z => eq_lt z.1 (by decide)) (or_e (fun z => Nat.lt_of_lt_of_le z.2 (by decide)) (fun z => eq_lt z.1 (by decide)))))) p) (c.new (kd := 15) (n := 0) (fun x y p => (or_e (fun z => Nat.lt_of_lt_of_le z.2 (by decide)) (or_e (fun z => Nat.lt_of_lt_of_le z.2 (by decide)) (or_e (fun z => eq_lt z.1 (by decide)) (or_e (fun z => Nat.lt_of_lt_of_le z.2 (by decide)) (fun z => eq_lt z.1 (by decide)))))) p) rfl rfl)) rfl rfl ?_⟩
    intro h2 c2
    exact ⟨c2.K 8 rfl, r37 _ ((c2.ref c.1 rfl).mono (fun x y q _ z => (pre_st (pre_st (pre_st (mono_s3 (or_st id))))) z))⟩
  have r15 : ∀ (h' : mj_H), Cb zx 11 (fun x y => (1 < x ∧ x < 2) ∨ (2 < x ∧ x < 8) ∨ (x = 2 ∧ (y = 0 ∨ y = 1)) ∨ (8 < x ∧ x < 11) ∨ (x = 8 ∧ (y = 0))) h' → Run 15 [some (.ref 8)] [] h' (10, 5135) := by
    intro h'  c
    refine hR 60 7 _ _ _ _ _ _ rfl ?_
    refine ⟨⟨Nat.le_of_ble_eq_true rfl, Nat.le_of_ble_eq_true rfl⟩, jcallB (ct_6 G c.1 (a := 11) ⟨rfl, rfl, rfl, rfl⟩ (fun x y p => (or_e (fun z => Nat.lt_of_lt_of_le z.2 (by decide)) (or_e (fun z => Nat.lt_of_lt_of_le z.2 (by decide)) (or_e (fun z => eq_lt z.1 (by decide)) (or_e (fun z => Nat.lt_of_lt_of_le z.2 (by decide)) (fun z => eq_lt z.1 (by decide)))))) p) (c.new (kd := 15) (n := 0) (fun x y p => (or_e (fun z => Nat.lt_of_lt_of_le z.2 (by decide)) (or_e (fun z => Nat.lt_of_lt_of_le z.2 (by decide)) (or_e (fun z => eq_lt z.1 (by decide)) (or_e (fun z => Nat.lt_of_lt_of_le z.2 (by decide)) (fun z => eq_lt z.1 (by decide)))))) p) rfl rfl)) rfl rfl ?_⟩
    intro h2 c2
    exact ⟨c2.K 8 rfl, r26 _ ((c2.ref c.1 rfl).mono (fun x y q _ z => (pre_st (pre_st (pre_st (mono_s3 id)))) z))⟩
  have r4 : ∀ (h' : mj_H), Cb zx 9 (fun x y => (1 < x ∧ x < 2) ∨ (2 < x ∧ x < 8) ∨ (x = 2 ∧ (y = 0 ∨ y = 1)) ∨ (8 < x ∧ x < 9)) h' → Run 4 [some (.ref 8)] [] h' (12, 6162) := by
    intro h'  c
    refine hR 60 2 _ _ _ _ _ _ rfl ?_
    refine ⟨⟨Nat.le_of_ble_eq_true rfl, Nat.le_of_ble_eq_true rfl⟩, jcallB (ct_6 G c.1 (a := 9) ⟨rfl, rfl, rfl, rfl⟩ (fun x y p => (or_e (fun z => Nat.lt_of_lt_of_le z.2 (by decide)) (or_e (fun z => Nat.lt_of_lt_of_le z.2 (by decide)) (or_e (fun z => eq_lt z.1 (by decide)) (fun z => Nat.lt_of_lt_of_le z.2 (by decide))))) p) (c.new (kd := 15) (n := 0) (fun x y p => (or_e (fun z => Nat.lt_of_lt_of_le z.2 (by decide)) (or_e (fun z => Nat.lt_of_lt_of_le z.2 (by decide)) (or_e (fun z => eq_lt z.1 (by decide)) (fun z => Nat.lt_of_lt_of_le z.2 (by decide))))) p) rfl rfl)) rfl rfl ?_⟩
    intro h2 c2
    exact ⟨c2.K 8 rfl, r15 _ ((c2.ref c.1 rfl).mono (fun x y q _ z => by omega))⟩
  refine hR 60 0 _ _ _ _ _ _ rfl ?_
  exact r4 h (c.mono (fun x y q _ z => by omega))
/-- FormHouse$Units.<init>()V; cuts at [4, 15, 26, 37, 48, 59, 70, 81, 92, 101, 103, 109] -/
def cl_2_2 : List mj_E := (103, true, .iload_n 1, 1, 0, 0, 0, 0, 0) ::
  (104, false, .bipush 8, 2, 0, 0, 0, jI 8, 0) ::
  (106, false, .if_icmp .ge 22, 3, 60, 0, 0, 0, 0) ::
  (109, true, .aload_n 0, 1, 0, 0, 0, 0, 0) ::
  (110, false, .getfield 55, 3, 1, 8, 2, 0, 0) ::
  (113, false, .iload_n 1, 1, 0, 0, 0, 0, 0) ::
  (114, false, .new 42, 3, 15, 3, 0, 0, 0) ::
  (117, false, .dup, 1, 0, 0, 0, 0, 0) ::
  (118, false, .invokespecial 44, 3, 6, 0, 0, 0, 0) ::
  (121, false, .aastore, 1, 0, 0, 0, 0, 0) ::
  (122, false, .iinc 1 1, 3, 0, 0, 0, jI 1, 0) ::
  (125, false, .goto (-22), 3, 48, 0, 0, 0, 0) ::
  (128, false, .return_, 1, 0, 0, 0, 0, 0) ::
  []
def cl_2_1 : List mj_E := (52, false, .dup, 1, 0, 0, 0, 0, 0) ::
  (53, false, .invokespecial 34, 3, 7, 0, 0, 0, 0) ::
  (56, false, .putfield 39, 3, 1, 4, 2, 0, 0) ::
  (59, true, .aload_n 0, 1, 0, 0, 0, 0, 0) ::
  (60, false, .new 42, 3, 15, 3, 0, 0, 0) ::
  (63, false, .dup, 1, 0, 0, 0, 0, 0) ::
  (64, false, .invokespecial 44, 3, 6, 0, 0, 0, 0) ::
  (67, false, .putfield 45, 3, 1, 5, 2, 0, 0) ::
  (70, true, .aload_n 0, 1, 0, 0, 0, 0, 0) ::
  (71, false, .new 42, 3, 15, 3, 0, 0, 0) ::
  (74, false, .dup, 1, 0, 0, 0, 0, 0) ::
  (75, false, .invokespecial 44, 3, 6, 0, 0, 0, 0) ::
  (78, false, .putfield 49, 3, 1, 6, 2, 0, 0) ::
  (81, true, .aload_n 0, 1, 0, 0, 0, 0, 0) ::
  (82, false, .new 42, 3, 15, 3, 0, 0, 0) ::
  (85, false, .dup, 1, 0, 0, 0, 0, 0) ::
  (86, false, .invokespecial 44, 3, 6, 0, 0, 0, 0) ::
  (89, false, .putfield 52, 3, 1, 7, 2, 0, 0) ::
  (92, true, .aload_n 0, 1, 0, 0, 0, 0, 0) ::
  (93, false, .bipush 8, 2, 0, 0, 0, jI 8, 0) ::
  (95, false, .anewarray 42, 3, 5, 0, 0, 0, 0) ::
  (98, false, .putfield 55, 3, 1, 8, 2, 0, 0) ::
  (101, true, .iconst 0, 1, 0, 0, 0, jI 0, 0) ::
  (102, false, .istore_n 1, 1, 0, 0, 0, 0, 0) ::
  cl_2_2
def cl_2_0 : List mj_E := (0, false, .aload_n 0, 1, 0, 0, 0, 0, 0) ::
  (1, false, .invokespecial 3, 3, 0, 0, 1, 0, 0) ::
  (4, true, .aload_n 0, 1, 0, 0, 0, 0, 0) ::
  (5, false, .new 9, 3, 12, 4, 0, 0, 0) ::
  (8, false, .dup, 1, 0, 0, 0, 0, 0) ::
  (9, false, .invokespecial 11, 3, 3, 0, 0, 0, 0) ::
  (12, false, .putfield 12, 3, 1, 0, 2, 0, 0) ::
  (15, true, .aload_n 0, 1, 0, 0, 0, 0, 0) ::
  (16, false, .new 18, 3, 13, 2, 0, 0, 0) ::
  (19, false, .dup, 1, 0, 0, 0, 0, 0) ::
  (20, false, .invokespecial 20, 3, 4, 0, 0, 0, 0) ::
  (23, false, .putfield 21, 3, 1, 1, 2, 0, 0) ::
  (26, true, .aload_n 0, 1, 0, 0, 0, 0, 0) ::
  (27, false, .new 25, 3, 14, 6, 0, 0, 0) ::
  (30, false, .dup, 1, 0, 0, 0, 0, 0) ::
  (31, false, .invokespecial 27, 3, 5, 0, 0, 0, 0) ::
  (34, false, .putfield 28, 3, 1, 2, 2, 0, 0) ::
  (37, true, .aload_n 0, 1, 0, 0, 0, 0, 0) ::
  (38, false, .new 32, 3, 16, 3, 0, 0, 0) ::
  (41, false, .dup, 1, 0, 0, 0, 0, 0) ::
  (42, false, .invokespecial 34, 3, 7, 0, 0, 0, 0) ::
  (45, false, .putfield 35, 3, 1, 3, 2, 0, 0) ::
  (48, true, .aload_n 0, 1, 0, 0, 0, 0, 0) ::
  (49, false, .new 32, 3, 16, 3, 0, 0, 0) ::
  cl_2_1
def cd_2 : List mj_E := cl_2_0
def cx_2 : mj_X := (0, [], [])
theorem tb_2 : mj_tab (mj_mt 2) cx_2 cd_2 mj_mh [(0, 0, 0), (1043, 1036, 1037), (0, 0, 0), (1044, 1045, 1003), (0, 0, 0), (1046, 0, 0), (1189, 0, 0), (0, 0, 0), (1064, 1065, 1004), (0, 0, 0), (1066, 0, 0), (1191, 0, 0), (0, 0, 0), (1085, 1086, 1005), (0, 0, 0), (1087, 0, 0), (1193, 0, 0), (0, 0, 0), (1150, 1151, 1007), (0, 0, 0), (1152, 0, 0), (1194, 0, 0), (0, 0, 0), (1150, 1151, 1007), (0, 0, 0), (1152, 0, 0), (1195, 0, 0), (0, 0, 0), (1186, 1092, 1006), (0, 0, 0), (1187, 0, 0), (1196, 0, 0), (0, 0, 0), (1186, 1092, 1006), (0, 0, 0), (1187, 0, 0), (1197, 0, 0), (0, 0, 0), (1186, 1092, 1006), (0, 0, 0), (1187, 0, 0), (1198, 0, 0), (0, 0, 0), (0, 0, 0), (1186, 1188, 0), (1199, 0, 0), (0, 0, 0), (0, 0, 0), (0, 0, 0), (0, 0, 0), (0, 0, 0), (0, 0, 0), (1199, 0, 0), (0, 0, 0), (1186, 1092, 1006), (0, 0, 0), (1187, 0, 0), (0, 0, 0), (0, 0, 0), (0, 0, 0), (0, 0, 0)] = true := mj_tab_f (by decide +kernel)
theorem ct_2_2 (G : mj_G) {zx : (Nat → Int32) × Nat} {h : mj_H} {a' : Nat} (ea : a' = 2) (c : Cb zx 3 (fun x y => (1 < x ∧ x < 2)) h) : mj_Ct G (mj_mt 2) 43 21582 [Value.ref a'] h (fun o h' => o = .returned none ∧ Cb zx 46 (fun x y => (1 < x ∧ x < 2) ∨ (2 ≤ x ∧ x < 46)) h') := by
  subst ea
  refine mj_Ct_of mj_ok tb_2 rfl rfl (Nat.le_of_ble_eq_true rfl) (fun Run hR => ?_)
  have wh : ∀ i, i < 8 → whP (30 + 2 * i) := by
    unfold whP
    decide
  have lr : ∀ i, i < 8 → lyR2 29 i = some (30 + 2 * i) := by decide
  have r103 : ∀ (p i : Nat) (iI : Int32) (h' : mj_H) (bc bs : Nat), i + p = 8 → bc = 2 * p → bs = 1027 * p → Cb zx (30 + 2 * i) (fun x y => (2 < x ∧ x < 29) ∨ (30 ≤ x ∧ x < 30 + 2 * i) ∨ (x = 29 ∧ y < i) ∨ (x = 2 ∧ y < 9)) h' → iI = jI i → Run 103 [some (.ref 2), some (.int iI)] [] h' (bc, bs) := by
    intro p
    induction p with
    | zero =>
      rintro i iI h' bc bs hi hbc hbs c rfl
      have ei : i = 8 := by omega
      subst ei
      refine hR 60 48 _ _ _ _ _ _ rfl ?_
      refine ⟨fun _ => ⟨rfl, c.mono (fun x y q e z => ?_)⟩, fun z => absurd (by decide) z⟩
      by_cases h29 : x = 29
      · subst h29
        have h1 := lkp_mem (show lkp [(0, 30), (1, 32), (2, 34), (3, 36), (4, 38), (5, 40), (6, 42), (7, 44)] y = some q from e)
        simp only [List.mem_cons, Prod.mk.injEq, List.not_mem_nil, or_false] at h1
        omega
      · by_cases h2 : x = 2
        · subst h2
          have h1 := lkp_mem (show lkp [(0, 3), (1, 7), (2, 8), (3, 21), (4, 22), (5, 23), (6, 25), (7, 27), (8, 29)] y = some q from e)
          simp only [List.mem_cons, Prod.mk.injEq, List.not_mem_nil, or_false] at h1
          omega
        · omega
    | succ p ih =>
      rintro i iI h' bc bs hi hbc hbs c rfl
      have hw := wh i (by omega)
      have c1 := c.new (kd := 15) (n := 0) (fun x y p => by omega) (by rw [hw.1]) (by rw [hw.1])
      have vi : vp_in (jI (i : Int)) 8 := jI_in (by omega) (by omega) (by omega)
      have nt : (jI (i : Int)).toNatClampNeg = i := by rw [jI_nat (by omega) (by omega), Int.toNat_natCast]
      have r109 : Run 109 [some (.ref 2), some (.int (jI i))] [] h' (bc, bs) := by
        refine hR 60 51 _ _ _ _ _ _ rfl ?_
        refine ⟨(c.2.1 2 (by omega)).1, _, c.R 2 8 29 rfl (by omega), ⟨by omega, by omega⟩, jcallB (ct_6 G c.1 hw (fun x y p => by omega) c1) (Nat.ble_eq_true_of_le (by omega)) (Nat.ble_eq_true_of_le (by omega)) ?_⟩
        intro h2 c2
        have kt : hK h2 (hT h') = 15 := by
          rw [c.1, (c2.2.1 _ (by omega)).1, hw.1]
        have nl : hN h2 29 = 8 := by
          rcases (c2.2.1 29 (by omega)).2 with z | z
          · omega
          · exact z
        refine ⟨Or.inl ⟨(c2.2.1 29 (by omega)).1, kt⟩, by rw [nl]; exact vi, ?_⟩
        rw [nt]
        refine ih (i + 1) _ _ _ _ (by omega) (by omega) (by omega) (Cb.mono (c2.ref (a := 29) (k := i) c.1 (lr i (by omega))) (fun x y q e z => by omega)) (by rw [jI_add]; rfl)
      refine hR 60 48 _ _ _ _ _ _ rfl ?_
      refine ⟨fun c => ?_, fun _ => r109⟩
      simp (disch := omega) only [mj_lcm, jI_lt, jI_le, jI_eq, jL_lt, jL_le, jL_eq, jI_lt0, jI_0le, jI_0lt, jI_le0, jI_eq0, jL_eq0, jI_L, jI_add, jI_sub, jI_mul, jI_neg, jL_add, jL_sub, jL_mul, jL_neg, jL_I, jI_div, jI_mod, jL_div, jL_mod] at c
      omega
  have r101 : ∀ (h' : mj_H) (x1 : Option Value), Cb zx 30 (fun x y => (1 < x ∧ x < 2) ∨ (2 < x ∧ x < 29) ∨ (29 < x ∧ x < 30) ∨ (x = 2 ∧ (y = 0 ∨ y = 1 ∨ y = 2 ∨ y = 3 ∨ y = 4 ∨ y = 5 ∨ y = 6 ∨ y = 7 ∨ y = 8))) h' → Run 101 [some (.ref 2), x1] [] h' (16, 8216) := by
    intro h' x1 c
    refine hR 60 46 _ _ _ _ _ _ rfl ?_
    exact r103 8 0 _ h' _ _ (by omega) rfl rfl (c.mono (fun x y q _ z => by omega)) rfl
  have r92 : ∀ (h' : mj_H) (x1 : Option Value), Cb zx 29 (fun x y => (1 < x ∧ x < 2) ∨ (2 < x ∧ x < 29) ∨ (x = 2 ∧ (y = 0 ∨ y = 1 ∨ y = 2 ∨ y = 3 ∨ y = 4 ∨ y = 5 ∨ y = 6 ∨ y = 7))) h' → Run 92 [some (.ref 2), x1] [] h' (17, 8224) := by
    intro h' x1 c
    refine hR 60 42 _ _ _ _ _ _ rfl ?_
    have c1 := c.new (kd := 5) (n := (jI 8).toNatClampNeg) (fun x y p => (or_e (fun z => Nat.lt_of_lt_of_le z.2 (by decide)) (or_e (fun z => Nat.lt_of_lt_of_le z.2 (by decide)) (fun z => eq_lt z.1 (by decide)))) p) rfl rfl
    exact ⟨⟨by decide, by decide, Nat.le_of_ble_eq_true rfl, Nat.le_of_ble_eq_true rfl⟩, c1.K 2 rfl, r101 _ _ ((c1.ref c.1 rfl).mono (fun x y q _ z => by omega))⟩
  have r81 : ∀ (h' : mj_H) (x1 : Option Value), Cb zx 27 (fun x y => (1 < x ∧ x < 2) ∨ (2 < x ∧ x < 27) ∨ (x = 2 ∧ (y = 0 ∨ y = 1 ∨ y = 2 ∨ y = 3 ∨ y = 4 ∨ y = 5 ∨ y = 6))) h' → Run 81 [some (.ref 2), x1] [] h' (19, 9251) := by
    intro h' x1 c
    refine hR 60 37 _ _ _ _ _ _ rfl ?_
    refine ⟨⟨Nat.le_of_ble_eq_true rfl, Nat.le_of_ble_eq_true rfl⟩, jcallB (ct_6 G c.1 (a := 27) ⟨rfl, rfl, rfl, rfl⟩ (fun x y p => (or_e (fun z => Nat.lt_of_lt_of_le z.2 (by decide)) (or_e (fun z => Nat.lt_of_lt_of_le z.2 (by decide)) (fun z => eq_lt z.1 (by decide)))) p) (c.new (kd := 15) (n := 0) (fun x y p => (or_e (fun z => Nat.lt_of_lt_of_le z.2 (by decide)) (or_e (fun z => Nat.lt_of_lt_of_le z.2 (by decide)) (fun z => eq_lt z.1 (by decide)))) p) rfl rfl)) rfl rfl ?_⟩
    intro h2 c2
    exact ⟨c2.K 2 rfl, r92 _ _ ((c2.ref c.1 rfl).mono (fun x y q _ z => (pre_st (mono_s3 (or_st (or_st (or_st (or_st (or_st (or_st id)))))))) z))⟩
  have r70 : ∀ (h' : mj_H) (x1 : Option Value), Cb zx 25 (fun x y => (1 < x ∧ x < 2) ∨ (2 < x ∧ x < 25) ∨ (x = 2 ∧ (y = 0 ∨ y = 1 ∨ y = 2 ∨ y = 3 ∨ y = 4 ∨ y = 5))) h' → Run 70 [some (.ref 2), x1] [] h' (21, 10278) := by
    intro h' x1 c
    refine hR 60 32 _ _ _ _ _ _ rfl ?_
    refine ⟨⟨Nat.le_of_ble_eq_true rfl, Nat.le_of_ble_eq_true rfl⟩, jcallB (ct_6 G c.1 (a := 25) ⟨rfl, rfl, rfl, rfl⟩ (fun x y p => (or_e (fun z => Nat.lt_of_lt_of_le z.2 (by decide)) (or_e (fun z => Nat.lt_of_lt_of_le z.2 (by decide)) (fun z => eq_lt z.1 (by decide)))) p) (c.new (kd := 15) (n := 0) (fun x y p => (or_e (fun z => Nat.lt_of_lt_of_le z.2 (by decide)) (or_e (fun z => Nat.lt_of_lt_of_le z.2 (by decide)) (fun z => eq_lt z.1 (by decide)))) p) rfl rfl)) rfl rfl ?_⟩
    intro h2 c2
    exact ⟨c2.K 2 rfl, r81 _ _ ((c2.ref c.1 rfl).mono (fun x y q _ z => (pre_st (mono_s3 (or_st (or_st (or_st (or_st (or_st id))))))) z))⟩
  have r59 : ∀ (h' : mj_H) (x1 : Option Value), Cb zx 23 (fun x y => (1 < x ∧ x < 2) ∨ (2 < x ∧ x < 23) ∨ (x = 2 ∧ (y = 0 ∨ y = 1 ∨ y = 2 ∨ y = 3 ∨ y = 4))) h' → Run 59 [some (.ref 2), x1] [] h' (23, 11305) := by
    intro h' x1 c
    refine hR 60 27 _ _ _ _ _ _ rfl ?_
    refine ⟨⟨Nat.le_of_ble_eq_true rfl, Nat.le_of_ble_eq_true rfl⟩, jcallB (ct_6 G c.1 (a := 23) ⟨rfl, rfl, rfl, rfl⟩ (fun x y p => (or_e (fun z => Nat.lt_of_lt_of_le z.2 (by decide)) (or_e (fun z => Nat.lt_of_lt_of_le z.2 (by decide)) (fun z => eq_lt z.1 (by decide)))) p) (c.new (kd := 15) (n := 0) (fun x y p => (or_e (fun z => Nat.lt_of_lt_of_le z.2 (by decide)) (or_e (fun z => Nat.lt_of_lt_of_le z.2 (by decide)) (fun z => eq_lt z.1 (by decide)))) p) rfl rfl)) rfl rfl ?_⟩
    intro h2 c2
    exact ⟨c2.K 2 rfl, r70 _ _ ((c2.ref c.1 rfl).mono (fun x y q _ z => (pre_st (mono_s3 (or_st (or_st (or_st (or_st id)))))) z))⟩
  have r48 : ∀ (h' : mj_H) (x1 : Option Value), Cb zx 22 (fun x y => (1 < x ∧ x < 2) ∨ (2 < x ∧ x < 22) ∨ (x = 2 ∧ (y = 0 ∨ y = 1 ∨ y = 2 ∨ y = 3))) h' → Run 48 [some (.ref 2), x1] [] h' (24, 11308) := by
    intro h' x1 c
    refine hR 60 22 _ _ _ _ _ _ rfl ?_
    have c1 := c.newL (kd := 16) (n := 0) (fun x y p => (or_e (fun z => Nat.lt_of_lt_of_le z.2 (by decide)) (or_e (fun z => Nat.lt_of_lt_of_le z.2 (by decide)) (fun z => eq_lt z.1 (by decide)))) p) rfl rfl
    exact ⟨⟨Nat.le_of_ble_eq_true rfl, Nat.le_of_ble_eq_true rfl⟩, jcallV (ct_7 G _ _) ⟨c1.K 2 rfl, r59 _ _ ((c1.ref c.1 rfl).mono (fun x y q _ z => (pre_st (mono_s2 (or_st (or_st (or_st id))))) z))⟩⟩
  have r37 : ∀ (h' : mj_H) (x1 : Option Value), Cb zx 21 (fun x y => (1 < x ∧ x < 2) ∨ (2 < x ∧ x < 21) ∨ (x = 2 ∧ (y = 0 ∨ y = 1 ∨ y = 2))) h' → Run 37 [some (.ref 2), x1] [] h' (25, 11311) := by
    intro h' x1 c
    refine hR 60 17 _ _ _ _ _ _ rfl ?_
    have c1 := c.newL (kd := 16) (n := 0) (fun x y p => (or_e (fun z => Nat.lt_of_lt_of_le z.2 (by decide)) (or_e (fun z => Nat.lt_of_lt_of_le z.2 (by decide)) (fun z => eq_lt z.1 (by decide)))) p) rfl rfl
    exact ⟨⟨Nat.le_of_ble_eq_true rfl, Nat.le_of_ble_eq_true rfl⟩, jcallV (ct_7 G _ _) ⟨c1.K 2 rfl, r48 _ _ ((c1.ref c.1 rfl).mono (fun x y q _ z => (pre_st (mono_s2 (or_st (or_st id)))) z))⟩⟩
  have r26 : ∀ (h' : mj_H) (x1 : Option Value), Cb zx 8 (fun x y => (1 < x ∧ x < 2) ∨ (2 < x ∧ x < 8) ∨ (x = 2 ∧ (y = 0 ∨ y = 1))) h' → Run 26 [some (.ref 2), x1] [] h' (38, 17479) := by
    intro h' x1 c
    refine hR 60 12 _ _ _ _ _ _ rfl ?_
    refine ⟨⟨Nat.le_of_ble_eq_true rfl, Nat.le_of_ble_eq_true rfl⟩, jcallB (ct_5_8 G c.1 (c.new (fun x y p => (or_e (fun z => Nat.lt_of_lt_of_le z.2 (by decide)) (or_e (fun z => Nat.lt_of_lt_of_le z.2 (by decide)) (fun z => eq_lt z.1 (by decide)))) p) rfl rfl)) rfl rfl ?_⟩
    intro h2 c2
    exact ⟨c2.K 2 rfl, r37 _ _ ((c2.ref c.1 rfl).mono (fun x y q _ z => by omega))⟩
  have r15 : ∀ (h' : mj_H) (x1 : Option Value), Cb zx 7 (fun x y => (1 < x ∧ x < 2) ∨ (2 < x ∧ x < 7) ∨ (x = 2 ∧ (y = 0))) h' → Run 15 [some (.ref 2), x1] [] h' (39, 17481) := by
    intro h' x1 c
    refine hR 60 7 _ _ _ _ _ _ rfl ?_
    have c1 := c.newL (kd := 13) (n := 0) (fun x y p => (or_e (fun z => Nat.lt_of_lt_of_le z.2 (by decide)) (or_e (fun z => Nat.lt_of_lt_of_le z.2 (by decide)) (fun z => eq_lt z.1 (by decide)))) p) rfl rfl
    exact ⟨⟨Nat.le_of_ble_eq_true rfl, Nat.le_of_ble_eq_true rfl⟩, jcallV (ct_4 G _ _) ⟨c1.K 2 rfl, r26 _ _ ((c1.ref c.1 rfl).mono (fun x y q _ z => (pre_st (mono_s2 id)) z))⟩⟩
  have r4 : ∀ (h' : mj_H) (x1 : Option Value), Cb zx 3 (fun x y => (1 < x ∧ x < 2) ∨ (2 < x ∧ x < 3)) h' → Run 4 [some (.ref 2), x1] [] h' (43, 21582) := by
    intro h' x1 c
    refine hR 60 2 _ _ _ _ _ _ rfl ?_
    refine ⟨⟨Nat.le_of_ble_eq_true rfl, Nat.le_of_ble_eq_true rfl⟩, jcallB (ct_3_3 G c.1 (c.new (fun x y p => (or_e (fun z => Nat.lt_of_lt_of_le z.2 (by decide)) (fun z => Nat.lt_of_lt_of_le z.2 (by decide))) p) rfl rfl)) rfl rfl ?_⟩
    intro h2 c2
    exact ⟨c2.K 2 rfl, r15 _ _ ((c2.ref c.1 rfl).mono (fun x y q _ z => by omega))⟩
  refine hR 60 0 _ _ _ _ _ _ rfl ?_
  exact r4 h _ (c.mono (fun x y q _ z => by omega))
theorem lyr_46 : ∀ {y q : Nat}, lyR2 46 y = some q → y = 0 ∨ y = 2 ∨ y = 3 ∨ y = 4 ∨ y = 6 ∨ y = 7 := by
  intro y q e
  have h1 := lkp_mem (show lkp [(0, 7), (2, 47), (3, 48), (4, 49), (6, 50), (7, 51)] y = some q from e)
  simp only [List.mem_cons, Prod.mk.injEq, List.not_mem_nil, or_false] at h1
  omega
/-- FormHouse$Table.<init>(LFormHouse$Reducer;)V; cuts at [4, 12, 20, 28, 37, 48, 53] -/
def cd_8 : List mj_E := [(0, false, .aload_n 0, 1, 0, 0, 0, 0, 0),
  (1, false, .invokespecial 3, 3, 0, 0, 1, 0, 0),
  (4, true, .aload_n 0, 1, 0, 0, 0, 0, 0),
  (5, false, .ldc 9, 2, 0, 0, 0, jI 40960, 0),
  (7, false, .newarray .int, 2, 1, 0, 0, 0, 0),
  (9, false, .putfield 10, 3, 7, 2, 2, 0, 0),
  (12, true, .aload_n 0, 1, 0, 0, 0, 0, 0),
  (13, false, .ldc 9, 2, 0, 0, 0, jI 40960, 0),
  (15, false, .newarray .int, 2, 1, 0, 0, 0, 0),
  (17, false, .putfield 16, 3, 7, 3, 2, 0, 0),
  (20, true, .aload_n 0, 1, 0, 0, 0, 0, 0),
  (21, false, .ldc 9, 2, 0, 0, 0, jI 40960, 0),
  (23, false, .newarray .short, 2, 3, 0, 0, 0, 0),
  (25, false, .putfield 19, 3, 7, 4, 2, 0, 0),
  (28, true, .aload_n 0, 1, 0, 0, 0, 0, 0),
  (29, false, .sipush 4096, 3, 0, 0, 0, jI 4096, 0),
  (32, false, .newarray .int, 2, 1, 0, 0, 0, 0),
  (34, false, .putfield 23, 3, 7, 6, 2, 0, 0),
  (37, true, .aload_n 0, 1, 0, 0, 0, 0, 0),
  (38, false, .new 26, 3, 16, 3, 0, 0, 0),
  (41, false, .dup, 1, 0, 0, 0, 0, 0),
  (42, false, .invokespecial 28, 3, 7, 0, 0, 0, 0),
  (45, false, .putfield 29, 3, 7, 7, 2, 0, 0),
  (48, true, .aload_n 0, 1, 0, 0, 0, 0, 0),
  (49, false, .aload_n 1, 1, 0, 0, 0, 0, 0),
  (50, false, .putfield 33, 3, 7, 0, 2, 0, 0),
  (53, true, .return_, 1, 0, 0, 0, 0, 0)]
def cx_8 : mj_X := (0, [], [])
theorem tb_8 : mj_tab (mj_mt 8) cx_8 cd_8 mj_mh [(0, 0, 0), (1228, 1036, 1037), (0, 0, 0), (1229, 0, 0), (1063, 0, 0), (1236, 0, 0), (0, 0, 0), (1229, 0, 0), (1063, 0, 0), (1237, 0, 0), (0, 0, 0), (1229, 0, 0), (2021, 0, 0), (1238, 0, 0), (0, 0, 0), (0, 0, 0), (1063, 0, 0), (2002, 0, 0), (0, 0, 0), (1230, 1151, 1007), (0, 0, 0), (1231, 0, 0), (2003, 0, 0), (0, 0, 0), (0, 0, 0), (1232, 0, 0), (0, 0, 0)] = true := mj_tab_f (by decide +kernel)
theorem ct_8_46 (G : mj_G) {zx : (Nat → Int32) × Nat} {h : mj_H} {a' : Nat} (ea : a' = 46) (c : Cb zx 47 (fun x y => (1 < x ∧ x < 46) ∨ (x = 1 ∧ (y = 0))) h) : mj_Ct G (mj_mt 8) 5 126979 [Value.ref a', .ref 7] h (fun o h' => o = .returned none ∧ Cb zx 52 (fun x y => (1 < x ∧ x < 46) ∨ (x = 1 ∧ (y = 0)) ∨ (46 ≤ x ∧ x < 52)) h') := by
  subst ea
  refine mj_Ct_of mj_ok tb_8 rfl rfl (Nat.le_of_ble_eq_true rfl) (fun Run hR => ?_)
  have r53 : ∀ (h' : mj_H), Cb zx 52 (fun x y => (1 < x ∧ x < 46) ∨ (x = 1 ∧ (y = 0)) ∨ (46 < x ∧ x < 52) ∨ (x = 46 ∧ (y = 2 ∨ y = 3 ∨ y = 4 ∨ y = 6 ∨ y = 7 ∨ y = 0))) h' → Run 53 [some (.ref 46), some (.ref 7)] [] h' (0, 0) := by
    intro h'  c
    refine hR 60 26 _ _ _ _ _ _ rfl ?_
    refine ⟨rfl, c.mono (fun x y q e z => ?_)⟩
    exact (Or.imp id (Or.imp id (fin_s (fun hx => by subst hx; have := lyr_46 e; clear z; omega)))) z
  have r48 : ∀ (h' : mj_H), Cb zx 52 (fun x y => (1 < x ∧ x < 46) ∨ (x = 1 ∧ (y = 0)) ∨ (46 < x ∧ x < 52) ∨ (x = 46 ∧ (y = 2 ∨ y = 3 ∨ y = 4 ∨ y = 6 ∨ y = 7))) h' → Run 48 [some (.ref 46), some (.ref 7)] [] h' (0, 0) := by
    intro h'  c
    refine hR 60 23 _ _ _ _ _ _ rfl ?_
    exact ⟨c.K 46 rfl, r53 _ ((c.ref rfl rfl).mono (fun x y q _ z => (or_st (or_st (or_st (and_st (or_st (or_st (or_st (or_st id)))))))) z))⟩
  have r37 : ∀ (h' : mj_H), Cb zx 51 (fun x y => (1 < x ∧ x < 46) ∨ (x = 1 ∧ (y = 0)) ∨ (46 < x ∧ x < 51) ∨ (x = 46 ∧ (y = 2 ∨ y = 3 ∨ y = 4 ∨ y = 6))) h' → Run 37 [some (.ref 46), some (.ref 7)] [] h' (1, 3) := by
    intro h'  c
    refine hR 60 18 _ _ _ _ _ _ rfl ?_
    have c1 := c.newL (kd := 16) (n := 0) (fun x y p => (or_e (fun z => Nat.lt_of_lt_of_le z.2 (by decide)) (or_e (fun z => eq_lt z.1 (by decide)) (or_e (fun z => Nat.lt_of_lt_of_le z.2 (by decide)) (fun z => eq_lt z.1 (by decide))))) p) rfl rfl
    exact ⟨⟨Nat.le_of_ble_eq_true rfl, Nat.le_of_ble_eq_true rfl⟩, jcallV (ct_7 G _ _) ⟨c1.K 46 rfl, r48 _ ((c1.ref c.1 rfl).mono (fun x y q _ z => (pre_st (pre_st (mono_s2 (or_st (or_st (or_st id)))))) z))⟩⟩
  have r28 : ∀ (h' : mj_H), Cb zx 50 (fun x y => (1 < x ∧ x < 46) ∨ (x = 1 ∧ (y = 0)) ∨ (46 < x ∧ x < 50) ∨ (x = 46 ∧ (y = 2 ∨ y = 3 ∨ y = 4))) h' → Run 28 [some (.ref 46), some (.ref 7)] [] h' (2, 4099) := by
    intro h'  c
    refine hR 60 14 _ _ _ _ _ _ rfl ?_
    have c1 := c.newL (kd := 1) (n := (jI 4096).toNatClampNeg) (fun x y p => (or_e (fun z => Nat.lt_of_lt_of_le z.2 (by decide)) (or_e (fun z => eq_lt z.1 (by decide)) (or_e (fun z => Nat.lt_of_lt_of_le z.2 (by decide)) (fun z => eq_lt z.1 (by decide))))) p) rfl rfl
    exact ⟨⟨by decide, by decide, Nat.le_of_ble_eq_true rfl, Nat.le_of_ble_eq_true rfl⟩, c1.K 46 rfl, r37 _ ((c1.ref c.1 rfl).mono (fun x y q _ z => (pre_st (pre_st (mono_s2 (or_st (or_st id))))) z))⟩
  have r20 : ∀ (h' : mj_H), Cb zx 49 (fun x y => (1 < x ∧ x < 46) ∨ (x = 1 ∧ (y = 0)) ∨ (46 < x ∧ x < 49) ∨ (x = 46 ∧ (y = 2 ∨ y = 3))) h' → Run 20 [some (.ref 46), some (.ref 7)] [] h' (3, 45059) := by
    intro h'  c
    refine hR 60 10 _ _ _ _ _ _ rfl ?_
    have c1 := c.newL (kd := 3) (n := (jI 40960).toNatClampNeg) (fun x y p => (or_e (fun z => Nat.lt_of_lt_of_le z.2 (by decide)) (or_e (fun z => eq_lt z.1 (by decide)) (or_e (fun z => Nat.lt_of_lt_of_le z.2 (by decide)) (fun z => eq_lt z.1 (by decide))))) p) rfl rfl
    exact ⟨⟨by decide, by decide, Nat.le_of_ble_eq_true rfl, Nat.le_of_ble_eq_true rfl⟩, c1.K 46 rfl, r28 _ ((c1.ref c.1 rfl).mono (fun x y q _ z => (pre_st (pre_st (mono_s2 (or_st id)))) z))⟩
  have r12 : ∀ (h' : mj_H), Cb zx 48 (fun x y => (1 < x ∧ x < 46) ∨ (x = 1 ∧ (y = 0)) ∨ (46 < x ∧ x < 48) ∨ (x = 46 ∧ (y = 2))) h' → Run 12 [some (.ref 46), some (.ref 7)] [] h' (4, 86019) := by
    intro h'  c
    refine hR 60 6 _ _ _ _ _ _ rfl ?_
    have c1 := c.newL (kd := 1) (n := (jI 40960).toNatClampNeg) (fun x y p => (or_e (fun z => Nat.lt_of_lt_of_le z.2 (by decide)) (or_e (fun z => eq_lt z.1 (by decide)) (or_e (fun z => Nat.lt_of_lt_of_le z.2 (by decide)) (fun z => eq_lt z.1 (by decide))))) p) rfl rfl
    exact ⟨⟨by decide, by decide, Nat.le_of_ble_eq_true rfl, Nat.le_of_ble_eq_true rfl⟩, c1.K 46 rfl, r20 _ ((c1.ref c.1 rfl).mono (fun x y q _ z => (pre_st (pre_st (mono_s2 id))) z))⟩
  have r4 : ∀ (h' : mj_H), Cb zx 47 (fun x y => (1 < x ∧ x < 46) ∨ (x = 1 ∧ (y = 0)) ∨ (46 < x ∧ x < 47)) h' → Run 4 [some (.ref 46), some (.ref 7)] [] h' (5, 126979) := by
    intro h'  c
    refine hR 60 2 _ _ _ _ _ _ rfl ?_
    have c1 := c.newL (kd := 1) (n := (jI 40960).toNatClampNeg) (fun x y p => (or_e (fun z => Nat.lt_of_lt_of_le z.2 (by decide)) (or_e (fun z => eq_lt z.1 (by decide)) (fun z => Nat.lt_of_lt_of_le z.2 (by decide)))) p) rfl rfl
    exact ⟨⟨by decide, by decide, Nat.le_of_ble_eq_true rfl, Nat.le_of_ble_eq_true rfl⟩, c1.K 46 rfl, r12 _ ((c1.ref c.1 rfl).mono (fun x y q _ z => by omega))⟩
  refine hR 60 0 _ _ _ _ _ _ rfl ?_
  exact r4 h (c.mono (fun x y q _ z => by omega))
theorem lyr_53 : ∀ {y q : Nat}, lyR2 53 y = some q → y = 0 ∨ y = 1 ∨ y = 2 ∨ y = 3 ∨ y = 4 := by
  intro y q e
  have h1 := lkp_mem (show lkp [(0, 7), (1, 54), (2, 55), (3, 56), (4, 57)] y = some q from e)
  simp only [List.mem_cons, Prod.mk.injEq, List.not_mem_nil, or_false] at h1
  omega
/-- FormHouse$Composer.<init>(LFormHouse$Reducer;)V; cuts at [4, 15, 26, 37, 48, 53] -/
def cd_9 : List mj_E := [(0, false, .aload_n 0, 1, 0, 0, 0, 0, 0),
  (1, false, .invokespecial 1, 3, 0, 0, 1, 0, 0),
  (4, true, .aload_n 0, 1, 0, 0, 0, 0, 0),
  (5, false, .new 7, 3, 20, 3, 0, 0, 0),
  (8, false, .dup, 1, 0, 0, 0, 0, 0),
  (9, false, .invokespecial 9, 3, 10, 0, 0, 0, 0),
  (12, false, .putfield 10, 3, 9, 1, 2, 0, 0),
  (15, true, .aload_n 0, 1, 0, 0, 0, 0, 0),
  (16, false, .new 7, 3, 20, 3, 0, 0, 0),
  (19, false, .dup, 1, 0, 0, 0, 0, 0),
  (20, false, .invokespecial 9, 3, 10, 0, 0, 0, 0),
  (23, false, .putfield 16, 3, 9, 2, 2, 0, 0),
  (26, true, .aload_n 0, 1, 0, 0, 0, 0, 0),
  (27, false, .new 19, 3, 16, 3, 0, 0, 0),
  (30, false, .dup, 1, 0, 0, 0, 0, 0),
  (31, false, .invokespecial 21, 3, 7, 0, 0, 0, 0),
  (34, false, .putfield 22, 3, 9, 3, 2, 0, 0),
  (37, true, .aload_n 0, 1, 0, 0, 0, 0, 0),
  (38, false, .new 19, 3, 16, 3, 0, 0, 0),
  (41, false, .dup, 1, 0, 0, 0, 0, 0),
  (42, false, .invokespecial 21, 3, 7, 0, 0, 0, 0),
  (45, false, .putfield 26, 3, 9, 4, 2, 0, 0),
  (48, true, .aload_n 0, 1, 0, 0, 0, 0, 0),
  (49, false, .aload_n 1, 1, 0, 0, 0, 0, 0),
  (50, false, .putfield 29, 3, 9, 0, 2, 0, 0),
  (53, true, .return_, 1, 0, 0, 0, 0, 0)]
def cx_9 : mj_X := (0, [], [])
theorem tb_9 : mj_tab (mj_mt 9) cx_9 cd_9 mj_mh [(0, 0, 0), (2029, 1036, 1037), (0, 0, 0), (2030, 2031, 1011), (0, 0, 0), (2032, 0, 0), (2052, 0, 0), (0, 0, 0), (2030, 2031, 1011), (0, 0, 0), (2032, 0, 0), (2053, 0, 0), (0, 0, 0), (2049, 1151, 1007), (0, 0, 0), (2050, 0, 0), (2054, 0, 0), (0, 0, 0), (2049, 1151, 1007), (0, 0, 0), (2050, 0, 0), (2055, 0, 0), (0, 0, 0), (0, 0, 0), (2051, 0, 0), (0, 0, 0)] = true := mj_tab_f (by decide +kernel)
theorem ct_9_53 (G : mj_G) {zx : (Nat → Int32) × Nat} {h : mj_H} {a' : Nat} (ea : a' = 53) (c : Cb zx 54 (fun x y => (1 < x ∧ x < 52) ∨ (x = 1 ∧ (y = 0 ∨ y = 1))) h) : mj_Ct G (mj_mt 9) 4 12 [Value.ref a', .ref 7] h (fun o h' => o = .returned none ∧ Cb zx 58 (fun x y => (1 < x ∧ x < 52) ∨ (x = 1 ∧ (y = 0 ∨ y = 1)) ∨ (53 ≤ x ∧ x < 58)) h') := by
  subst ea
  refine mj_Ct_of mj_ok tb_9 rfl rfl (Nat.le_of_ble_eq_true rfl) (fun Run hR => ?_)
  have r53 : ∀ (h' : mj_H), Cb zx 58 (fun x y => (1 < x ∧ x < 52) ∨ (x = 1 ∧ (y = 0 ∨ y = 1)) ∨ (53 < x ∧ x < 58) ∨ (x = 53 ∧ (y = 1 ∨ y = 2 ∨ y = 3 ∨ y = 4 ∨ y = 0))) h' → Run 53 [some (.ref 53), some (.ref 7)] [] h' (0, 0) := by
    intro h'  c
    refine hR 60 25 _ _ _ _ _ _ rfl ?_
    refine ⟨rfl, c.mono (fun x y q e z => ?_)⟩
    exact (Or.imp id (Or.imp id (fin_s (fun hx => by subst hx; have := lyr_53 e; clear z; omega)))) z
  have r48 : ∀ (h' : mj_H), Cb zx 58 (fun x y => (1 < x ∧ x < 52) ∨ (x = 1 ∧ (y = 0 ∨ y = 1)) ∨ (53 < x ∧ x < 58) ∨ (x = 53 ∧ (y = 1 ∨ y = 2 ∨ y = 3 ∨ y = 4))) h' → Run 48 [some (.ref 53), some (.ref 7)] [] h' (0, 0) := by
    intro h'  c
    refine hR 60 22 _ _ _ _ _ _ rfl ?_
    exact ⟨c.K 53 rfl, r53 _ ((c.ref rfl rfl).mono (fun x y q _ z => (or_st (or_st (or_st (and_st (or_st (or_st (or_st id))))))) z))⟩
  have r37 : ∀ (h' : mj_H), Cb zx 57 (fun x y => (1 < x ∧ x < 52) ∨ (x = 1 ∧ (y = 0 ∨ y = 1)) ∨ (53 < x ∧ x < 57) ∨ (x = 53 ∧ (y = 1 ∨ y = 2 ∨ y = 3))) h' → Run 37 [some (.ref 53), some (.ref 7)] [] h' (1, 3) := by
    intro h'  c
    refine hR 60 17 _ _ _ _ _ _ rfl ?_
    have c1 := c.newL (kd := 16) (n := 0) (fun x y p => (or_e (fun z => Nat.lt_of_lt_of_le z.2 (by decide)) (or_e (fun z => eq_lt z.1 (by decide)) (or_e (fun z => Nat.lt_of_lt_of_le z.2 (by decide)) (fun z => eq_lt z.1 (by decide))))) p) rfl rfl
    exact ⟨⟨Nat.le_of_ble_eq_true rfl, Nat.le_of_ble_eq_true rfl⟩, jcallV (ct_7 G _ _) ⟨c1.K 53 rfl, r48 _ ((c1.ref c.1 rfl).mono (fun x y q _ z => (pre_st (pre_st (mono_s2 (or_st (or_st id))))) z))⟩⟩
  have r26 : ∀ (h' : mj_H), Cb zx 56 (fun x y => (1 < x ∧ x < 52) ∨ (x = 1 ∧ (y = 0 ∨ y = 1)) ∨ (53 < x ∧ x < 56) ∨ (x = 53 ∧ (y = 1 ∨ y = 2))) h' → Run 26 [some (.ref 53), some (.ref 7)] [] h' (2, 6) := by
    intro h'  c
    refine hR 60 12 _ _ _ _ _ _ rfl ?_
    have c1 := c.newL (kd := 16) (n := 0) (fun x y p => (or_e (fun z => Nat.lt_of_lt_of_le z.2 (by decide)) (or_e (fun z => eq_lt z.1 (by decide)) (or_e (fun z => Nat.lt_of_lt_of_le z.2 (by decide)) (fun z => eq_lt z.1 (by decide))))) p) rfl rfl
    exact ⟨⟨Nat.le_of_ble_eq_true rfl, Nat.le_of_ble_eq_true rfl⟩, jcallV (ct_7 G _ _) ⟨c1.K 53 rfl, r37 _ ((c1.ref c.1 rfl).mono (fun x y q _ z => (pre_st (pre_st (mono_s2 (or_st id)))) z))⟩⟩
  have r15 : ∀ (h' : mj_H), Cb zx 55 (fun x y => (1 < x ∧ x < 52) ∨ (x = 1 ∧ (y = 0 ∨ y = 1)) ∨ (53 < x ∧ x < 55) ∨ (x = 53 ∧ (y = 1))) h' → Run 15 [some (.ref 53), some (.ref 7)] [] h' (3, 9) := by
    intro h'  c
    refine hR 60 7 _ _ _ _ _ _ rfl ?_
    have c1 := c.newL (kd := 20) (n := 0) (fun x y p => (or_e (fun z => Nat.lt_of_lt_of_le z.2 (by decide)) (or_e (fun z => eq_lt z.1 (by decide)) (or_e (fun z => Nat.lt_of_lt_of_le z.2 (by decide)) (fun z => eq_lt z.1 (by decide))))) p) rfl rfl
    exact ⟨⟨Nat.le_of_ble_eq_true rfl, Nat.le_of_ble_eq_true rfl⟩, jcallV (ct_10 G _ _) ⟨c1.K 53 rfl, r26 _ ((c1.ref c.1 rfl).mono (fun x y q _ z => (pre_st (pre_st (mono_s2 id))) z))⟩⟩
  have r4 : ∀ (h' : mj_H), Cb zx 54 (fun x y => (1 < x ∧ x < 52) ∨ (x = 1 ∧ (y = 0 ∨ y = 1)) ∨ (53 < x ∧ x < 54)) h' → Run 4 [some (.ref 53), some (.ref 7)] [] h' (4, 12) := by
    intro h'  c
    refine hR 60 2 _ _ _ _ _ _ rfl ?_
    have c1 := c.newL (kd := 20) (n := 0) (fun x y p => (or_e (fun z => Nat.lt_of_lt_of_le z.2 (by decide)) (or_e (fun z => eq_lt z.1 (by decide)) (fun z => Nat.lt_of_lt_of_le z.2 (by decide)))) p) rfl rfl
    exact ⟨⟨Nat.le_of_ble_eq_true rfl, Nat.le_of_ble_eq_true rfl⟩, jcallV (ct_10 G _ _) ⟨c1.K 53 rfl, r15 _ ((c1.ref c.1 rfl).mono (fun x y q _ z => by omega))⟩⟩
  refine hR 60 0 _ _ _ _ _ _ rfl ?_
  exact r4 h (c.mono (fun x y q _ z => by omega))
theorem lyr_52 : ∀ {y q : Nat}, lyR2 52 y = some q → y = 0 ∨ y = 1 ∨ y = 2 ∨ y = 3 ∨ y = 4 ∨ y = 6 ∨ y = 8 ∨ y = 10 ∨ y = 11 ∨ y = 12 ∨ y = 13 := by
  intro y q e
  have h1 := lkp_mem (show lkp [(0, 46), (1, 53), (2, 58), (3, 59), (4, 60), (6, 61), (8, 62), (10, 63), (11, 64), (12, 65), (13, 66)] y = some q from e)
  simp only [List.mem_cons, Prod.mk.injEq, List.not_mem_nil, or_false] at h1
  omega
/-- FormHouse$Group.<init>(LFormHouse$Table;LFormHouse$Composer;)V; cuts at [4, 15, 26, 37, 46, 54, 63, 72, 80, 89, 94, 99] -/
def cl_11_1 : List mj_E := (51, false, .putfield 28, 3, 8, 8, 2, 0, 0) ::
  (54, true, .aload_n 0, 1, 0, 0, 0, 0, 0) ::
  (55, false, .sipush 4096, 3, 0, 0, 0, jI 4096, 0) ::
  (58, false, .newarray .short, 2, 3, 0, 0, 0, 0) ::
  (60, false, .putfield 32, 3, 8, 10, 2, 0, 0) ::
  (63, true, .aload_n 0, 1, 0, 0, 0, 0, 0) ::
  (64, false, .sipush 4096, 3, 0, 0, 0, jI 4096, 0) ::
  (67, false, .newarray .boolean, 2, 4, 0, 0, 0, 0) ::
  (69, false, .putfield 35, 3, 8, 11, 2, 0, 0) ::
  (72, true, .aload_n 0, 1, 0, 0, 0, 0, 0) ::
  (73, false, .ldc 39, 2, 0, 0, 0, jI 32768, 0) ::
  (75, false, .newarray .short, 2, 3, 0, 0, 0, 0) ::
  (77, false, .putfield 40, 3, 8, 12, 2, 0, 0) ::
  (80, true, .aload_n 0, 1, 0, 0, 0, 0, 0) ::
  (81, false, .sipush 4096, 3, 0, 0, 0, jI 4096, 0) ::
  (84, false, .newarray .short, 2, 3, 0, 0, 0, 0) ::
  (86, false, .putfield 43, 3, 8, 13, 2, 0, 0) ::
  (89, true, .aload_n 0, 1, 0, 0, 0, 0, 0) ::
  (90, false, .aload_n 1, 1, 0, 0, 0, 0, 0) ::
  (91, false, .putfield 46, 3, 8, 0, 2, 0, 0) ::
  (94, true, .aload_n 0, 1, 0, 0, 0, 0, 0) ::
  (95, false, .aload_n 2, 1, 0, 0, 0, 0, 0) ::
  (96, false, .putfield 50, 3, 8, 1, 2, 0, 0) ::
  (99, true, .return_, 1, 0, 0, 0, 0, 0) ::
  []
def cl_11_0 : List mj_E := (0, false, .aload_n 0, 1, 0, 0, 0, 0, 0) ::
  (1, false, .invokespecial 3, 3, 0, 0, 1, 0, 0) ::
  (4, true, .aload_n 0, 1, 0, 0, 0, 0, 0) ::
  (5, false, .new 9, 3, 16, 3, 0, 0, 0) ::
  (8, false, .dup, 1, 0, 0, 0, 0, 0) ::
  (9, false, .invokespecial 11, 3, 7, 0, 0, 0, 0) ::
  (12, false, .putfield 12, 3, 8, 2, 2, 0, 0) ::
  (15, true, .aload_n 0, 1, 0, 0, 0, 0, 0) ::
  (16, false, .new 9, 3, 16, 3, 0, 0, 0) ::
  (19, false, .dup, 1, 0, 0, 0, 0, 0) ::
  (20, false, .invokespecial 11, 3, 7, 0, 0, 0, 0) ::
  (23, false, .putfield 18, 3, 8, 3, 2, 0, 0) ::
  (26, true, .aload_n 0, 1, 0, 0, 0, 0, 0) ::
  (27, false, .new 9, 3, 16, 3, 0, 0, 0) ::
  (30, false, .dup, 1, 0, 0, 0, 0, 0) ::
  (31, false, .invokespecial 11, 3, 7, 0, 0, 0, 0) ::
  (34, false, .putfield 21, 3, 8, 4, 2, 0, 0) ::
  (37, true, .aload_n 0, 1, 0, 0, 0, 0, 0) ::
  (38, false, .sipush 4096, 3, 0, 0, 0, jI 4096, 0) ::
  (41, false, .newarray .short, 2, 3, 0, 0, 0, 0) ::
  (43, false, .putfield 24, 3, 8, 6, 2, 0, 0) ::
  (46, true, .aload_n 0, 1, 0, 0, 0, 0, 0) ::
  (47, false, .bipush 8, 2, 0, 0, 0, jI 8, 0) ::
  (49, false, .newarray .int, 2, 1, 0, 0, 0, 0) ::
  cl_11_1
def cd_11 : List mj_E := cl_11_0
def cx_11 : mj_X := (0, [], [])
theorem tb_11 : mj_tab (mj_mt 11) cx_11 cd_11 mj_mh [(0, 0, 0), (2070, 1036, 1037), (0, 0, 0), (2071, 1151, 1007), (0, 0, 0), (2072, 0, 0), (2076, 0, 0), (0, 0, 0), (2071, 1151, 1007), (0, 0, 0), (2072, 0, 0), (2077, 0, 0), (0, 0, 0), (2071, 1151, 1007), (0, 0, 0), (2072, 0, 0), (2078, 0, 0), (0, 0, 0), (0, 0, 0), (2021, 0, 0), (2081, 0, 0), (0, 0, 0), (0, 0, 0), (1063, 0, 0), (2085, 0, 0), (0, 0, 0), (0, 0, 0), (2021, 0, 0), (2088, 0, 0), (0, 0, 0), (0, 0, 0), (2122, 0, 0), (2089, 0, 0), (0, 0, 0), (2073, 0, 0), (2021, 0, 0), (2090, 0, 0), (0, 0, 0), (0, 0, 0), (2021, 0, 0), (2092, 0, 0), (0, 0, 0), (0, 0, 0), (2074, 0, 0), (0, 0, 0), (0, 0, 0), (2075, 0, 0), (0, 0, 0)] = true := mj_tab_f (by decide +kernel)
theorem ct_11_52 (G : mj_G) {zx : (Nat → Int32) × Nat} {h : mj_H} {a' : Nat} (ea : a' = 52) {b' : Nat} (eb : b' = 53) (c : Cb zx 58 (fun x y => (1 < x ∧ x < 52) ∨ (x = 1 ∧ (y = 0 ∨ y = 1)) ∨ (53 ≤ x ∧ x < 58)) h) : mj_Ct G (mj_mt 11) 9 49169 [Value.ref a', .ref 46, .ref b'] h (fun o h' => o = .returned none ∧ Cb zx 67 (fun x y => (1 < x ∧ x < 52) ∨ (x = 1 ∧ (y = 0 ∨ y = 1)) ∨ (53 ≤ x ∧ x < 58) ∨ (52 ≤ x ∧ x < 67)) h') := by
  subst ea
  subst eb
  refine mj_Ct_of mj_ok tb_11 rfl rfl (Nat.le_of_ble_eq_true rfl) (fun Run hR => ?_)
  have r99 : ∀ (h' : mj_H), Cb zx 67 (fun x y => (1 < x ∧ x < 52) ∨ (x = 1 ∧ (y = 0 ∨ y = 1)) ∨ (53 ≤ x ∧ x < 58) ∨ (52 < x ∧ x < 67) ∨ (x = 52 ∧ (y = 2 ∨ y = 3 ∨ y = 4 ∨ y = 6 ∨ y = 8 ∨ y = 10 ∨ y = 11 ∨ y = 12 ∨ y = 13 ∨ y = 0 ∨ y = 1))) h' → Run 99 [some (.ref 52), some (.ref 46), some (.ref 53)] [] h' (0, 0) := by
    intro h'  c
    refine hR 60 47 _ _ _ _ _ _ rfl ?_
    refine ⟨rfl, c.mono (fun x y q e z => ?_)⟩
    exact (Or.imp id (Or.imp id (Or.imp id (fin_s (fun hx => by subst hx; have := lyr_52 e; clear z; omega))))) z
  have r94 : ∀ (h' : mj_H), Cb zx 67 (fun x y => (1 < x ∧ x < 52) ∨ (x = 1 ∧ (y = 0 ∨ y = 1)) ∨ (53 ≤ x ∧ x < 58) ∨ (52 < x ∧ x < 67) ∨ (x = 52 ∧ (y = 2 ∨ y = 3 ∨ y = 4 ∨ y = 6 ∨ y = 8 ∨ y = 10 ∨ y = 11 ∨ y = 12 ∨ y = 13 ∨ y = 0))) h' → Run 94 [some (.ref 52), some (.ref 46), some (.ref 53)] [] h' (0, 0) := by
    intro h'  c
    refine hR 60 44 _ _ _ _ _ _ rfl ?_
    exact ⟨c.K 52 rfl, r99 _ ((c.ref rfl rfl).mono (fun x y q _ z => (or_st (or_st (or_st (or_st (and_st (or_st (or_st (or_st (or_st (or_st (or_st (or_st (or_st (or_st id)))))))))))))) z))⟩
  have r89 : ∀ (h' : mj_H), Cb zx 67 (fun x y => (1 < x ∧ x < 52) ∨ (x = 1 ∧ (y = 0 ∨ y = 1)) ∨ (53 ≤ x ∧ x < 58) ∨ (52 < x ∧ x < 67) ∨ (x = 52 ∧ (y = 2 ∨ y = 3 ∨ y = 4 ∨ y = 6 ∨ y = 8 ∨ y = 10 ∨ y = 11 ∨ y = 12 ∨ y = 13))) h' → Run 89 [some (.ref 52), some (.ref 46), some (.ref 53)] [] h' (0, 0) := by
    intro h'  c
    refine hR 60 41 _ _ _ _ _ _ rfl ?_
    exact ⟨c.K 52 rfl, r94 _ ((c.ref rfl rfl).mono (fun x y q _ z => (or_st (or_st (or_st (or_st (and_st (or_st (or_st (or_st (or_st (or_st (or_st (or_st (or_st id))))))))))))) z))⟩
  have r80 : ∀ (h' : mj_H), Cb zx 66 (fun x y => (1 < x ∧ x < 52) ∨ (x = 1 ∧ (y = 0 ∨ y = 1)) ∨ (53 ≤ x ∧ x < 58) ∨ (52 < x ∧ x < 66) ∨ (x = 52 ∧ (y = 2 ∨ y = 3 ∨ y = 4 ∨ y = 6 ∨ y = 8 ∨ y = 10 ∨ y = 11 ∨ y = 12))) h' → Run 80 [some (.ref 52), some (.ref 46), some (.ref 53)] [] h' (1, 4096) := by
    intro h'  c
    refine hR 60 37 _ _ _ _ _ _ rfl ?_
    have c1 := c.newL (kd := 3) (n := (jI 4096).toNatClampNeg) (fun x y p => (or_e (fun z => Nat.lt_of_lt_of_le z.2 (by decide)) (or_e (fun z => eq_lt z.1 (by decide)) (or_e (fun z => Nat.lt_of_lt_of_le z.2 (by decide)) (or_e (fun z => Nat.lt_of_lt_of_le z.2 (by decide)) (fun z => eq_lt z.1 (by decide)))))) p) rfl rfl
    exact ⟨⟨by decide, by decide, Nat.le_of_ble_eq_true rfl, Nat.le_of_ble_eq_true rfl⟩, c1.K 52 rfl, r89 _ ((c1.ref c.1 rfl).mono (fun x y q _ z => (pre_st (pre_st (pre_st (mono_s2 (or_st (or_st (or_st (or_st (or_st (or_st (or_st id))))))))))) z))⟩
  have r72 : ∀ (h' : mj_H), Cb zx 65 (fun x y => (1 < x ∧ x < 52) ∨ (x = 1 ∧ (y = 0 ∨ y = 1)) ∨ (53 ≤ x ∧ x < 58) ∨ (52 < x ∧ x < 65) ∨ (x = 52 ∧ (y = 2 ∨ y = 3 ∨ y = 4 ∨ y = 6 ∨ y = 8 ∨ y = 10 ∨ y = 11))) h' → Run 72 [some (.ref 52), some (.ref 46), some (.ref 53)] [] h' (2, 36864) := by
    intro h'  c
    refine hR 60 33 _ _ _ _ _ _ rfl ?_
    have c1 := c.newL (kd := 3) (n := (jI 32768).toNatClampNeg) (fun x y p => (or_e (fun z => Nat.lt_of_lt_of_le z.2 (by decide)) (or_e (fun z => eq_lt z.1 (by decide)) (or_e (fun z => Nat.lt_of_lt_of_le z.2 (by decide)) (or_e (fun z => Nat.lt_of_lt_of_le z.2 (by decide)) (fun z => eq_lt z.1 (by decide)))))) p) rfl rfl
    exact ⟨⟨by decide, by decide, Nat.le_of_ble_eq_true rfl, Nat.le_of_ble_eq_true rfl⟩, c1.K 52 rfl, r80 _ ((c1.ref c.1 rfl).mono (fun x y q _ z => (pre_st (pre_st (pre_st (mono_s2 (or_st (or_st (or_st (or_st (or_st (or_st id)))))))))) z))⟩
  have r63 : ∀ (h' : mj_H), Cb zx 64 (fun x y => (1 < x ∧ x < 52) ∨ (x = 1 ∧ (y = 0 ∨ y = 1)) ∨ (53 ≤ x ∧ x < 58) ∨ (52 < x ∧ x < 64) ∨ (x = 52 ∧ (y = 2 ∨ y = 3 ∨ y = 4 ∨ y = 6 ∨ y = 8 ∨ y = 10))) h' → Run 63 [some (.ref 52), some (.ref 46), some (.ref 53)] [] h' (3, 40960) := by
    intro h'  c
    refine hR 60 29 _ _ _ _ _ _ rfl ?_
    have c1 := c.newL (kd := 4) (n := (jI 4096).toNatClampNeg) (fun x y p => (or_e (fun z => Nat.lt_of_lt_of_le z.2 (by decide)) (or_e (fun z => eq_lt z.1 (by decide)) (or_e (fun z => Nat.lt_of_lt_of_le z.2 (by decide)) (or_e (fun z => Nat.lt_of_lt_of_le z.2 (by decide)) (fun z => eq_lt z.1 (by decide)))))) p) rfl rfl
    exact ⟨⟨by decide, by decide, Nat.le_of_ble_eq_true rfl, Nat.le_of_ble_eq_true rfl⟩, c1.K 52 rfl, r72 _ ((c1.ref c.1 rfl).mono (fun x y q _ z => (pre_st (pre_st (pre_st (mono_s2 (or_st (or_st (or_st (or_st (or_st id))))))))) z))⟩
  have r54 : ∀ (h' : mj_H), Cb zx 63 (fun x y => (1 < x ∧ x < 52) ∨ (x = 1 ∧ (y = 0 ∨ y = 1)) ∨ (53 ≤ x ∧ x < 58) ∨ (52 < x ∧ x < 63) ∨ (x = 52 ∧ (y = 2 ∨ y = 3 ∨ y = 4 ∨ y = 6 ∨ y = 8))) h' → Run 54 [some (.ref 52), some (.ref 46), some (.ref 53)] [] h' (4, 45056) := by
    intro h'  c
    refine hR 60 25 _ _ _ _ _ _ rfl ?_
    have c1 := c.newL (kd := 3) (n := (jI 4096).toNatClampNeg) (fun x y p => (or_e (fun z => Nat.lt_of_lt_of_le z.2 (by decide)) (or_e (fun z => eq_lt z.1 (by decide)) (or_e (fun z => Nat.lt_of_lt_of_le z.2 (by decide)) (or_e (fun z => Nat.lt_of_lt_of_le z.2 (by decide)) (fun z => eq_lt z.1 (by decide)))))) p) rfl rfl
    exact ⟨⟨by decide, by decide, Nat.le_of_ble_eq_true rfl, Nat.le_of_ble_eq_true rfl⟩, c1.K 52 rfl, r63 _ ((c1.ref c.1 rfl).mono (fun x y q _ z => (pre_st (pre_st (pre_st (mono_s2 (or_st (or_st (or_st (or_st id)))))))) z))⟩
  have r46 : ∀ (h' : mj_H), Cb zx 62 (fun x y => (1 < x ∧ x < 52) ∨ (x = 1 ∧ (y = 0 ∨ y = 1)) ∨ (53 ≤ x ∧ x < 58) ∨ (52 < x ∧ x < 62) ∨ (x = 52 ∧ (y = 2 ∨ y = 3 ∨ y = 4 ∨ y = 6))) h' → Run 46 [some (.ref 52), some (.ref 46), some (.ref 53)] [] h' (5, 45064) := by
    intro h'  c
    refine hR 60 21 _ _ _ _ _ _ rfl ?_
    have c1 := c.newL (kd := 1) (n := (jI 8).toNatClampNeg) (fun x y p => (or_e (fun z => Nat.lt_of_lt_of_le z.2 (by decide)) (or_e (fun z => eq_lt z.1 (by decide)) (or_e (fun z => Nat.lt_of_lt_of_le z.2 (by decide)) (or_e (fun z => Nat.lt_of_lt_of_le z.2 (by decide)) (fun z => eq_lt z.1 (by decide)))))) p) rfl rfl
    exact ⟨⟨by decide, by decide, Nat.le_of_ble_eq_true rfl, Nat.le_of_ble_eq_true rfl⟩, c1.K 52 rfl, r54 _ ((c1.ref c.1 rfl).mono (fun x y q _ z => (pre_st (pre_st (pre_st (mono_s2 (or_st (or_st (or_st id))))))) z))⟩
  have r37 : ∀ (h' : mj_H), Cb zx 61 (fun x y => (1 < x ∧ x < 52) ∨ (x = 1 ∧ (y = 0 ∨ y = 1)) ∨ (53 ≤ x ∧ x < 58) ∨ (52 < x ∧ x < 61) ∨ (x = 52 ∧ (y = 2 ∨ y = 3 ∨ y = 4))) h' → Run 37 [some (.ref 52), some (.ref 46), some (.ref 53)] [] h' (6, 49160) := by
    intro h'  c
    refine hR 60 17 _ _ _ _ _ _ rfl ?_
    have c1 := c.newL (kd := 3) (n := (jI 4096).toNatClampNeg) (fun x y p => (or_e (fun z => Nat.lt_of_lt_of_le z.2 (by decide)) (or_e (fun z => eq_lt z.1 (by decide)) (or_e (fun z => Nat.lt_of_lt_of_le z.2 (by decide)) (or_e (fun z => Nat.lt_of_lt_of_le z.2 (by decide)) (fun z => eq_lt z.1 (by decide)))))) p) rfl rfl
    exact ⟨⟨by decide, by decide, Nat.le_of_ble_eq_true rfl, Nat.le_of_ble_eq_true rfl⟩, c1.K 52 rfl, r46 _ ((c1.ref c.1 rfl).mono (fun x y q _ z => (pre_st (pre_st (pre_st (mono_s2 (or_st (or_st id)))))) z))⟩
  have r26 : ∀ (h' : mj_H), Cb zx 60 (fun x y => (1 < x ∧ x < 52) ∨ (x = 1 ∧ (y = 0 ∨ y = 1)) ∨ (53 ≤ x ∧ x < 58) ∨ (52 < x ∧ x < 60) ∨ (x = 52 ∧ (y = 2 ∨ y = 3))) h' → Run 26 [some (.ref 52), some (.ref 46), some (.ref 53)] [] h' (7, 49163) := by
    intro h'  c
    refine hR 60 12 _ _ _ _ _ _ rfl ?_
    have c1 := c.newL (kd := 16) (n := 0) (fun x y p => (or_e (fun z => Nat.lt_of_lt_of_le z.2 (by decide)) (or_e (fun z => eq_lt z.1 (by decide)) (or_e (fun z => Nat.lt_of_lt_of_le z.2 (by decide)) (or_e (fun z => Nat.lt_of_lt_of_le z.2 (by decide)) (fun z => eq_lt z.1 (by decide)))))) p) rfl rfl
    exact ⟨⟨Nat.le_of_ble_eq_true rfl, Nat.le_of_ble_eq_true rfl⟩, jcallV (ct_7 G _ _) ⟨c1.K 52 rfl, r37 _ ((c1.ref c.1 rfl).mono (fun x y q _ z => (pre_st (pre_st (pre_st (mono_s2 (or_st id))))) z))⟩⟩
  have r15 : ∀ (h' : mj_H), Cb zx 59 (fun x y => (1 < x ∧ x < 52) ∨ (x = 1 ∧ (y = 0 ∨ y = 1)) ∨ (53 ≤ x ∧ x < 58) ∨ (52 < x ∧ x < 59) ∨ (x = 52 ∧ (y = 2))) h' → Run 15 [some (.ref 52), some (.ref 46), some (.ref 53)] [] h' (8, 49166) := by
    intro h'  c
    refine hR 60 7 _ _ _ _ _ _ rfl ?_
    have c1 := c.newL (kd := 16) (n := 0) (fun x y p => (or_e (fun z => Nat.lt_of_lt_of_le z.2 (by decide)) (or_e (fun z => eq_lt z.1 (by decide)) (or_e (fun z => Nat.lt_of_lt_of_le z.2 (by decide)) (or_e (fun z => Nat.lt_of_lt_of_le z.2 (by decide)) (fun z => eq_lt z.1 (by decide)))))) p) rfl rfl
    exact ⟨⟨Nat.le_of_ble_eq_true rfl, Nat.le_of_ble_eq_true rfl⟩, jcallV (ct_7 G _ _) ⟨c1.K 52 rfl, r26 _ ((c1.ref c.1 rfl).mono (fun x y q _ z => (pre_st (pre_st (pre_st (mono_s2 id)))) z))⟩⟩
  have r4 : ∀ (h' : mj_H), Cb zx 58 (fun x y => (1 < x ∧ x < 52) ∨ (x = 1 ∧ (y = 0 ∨ y = 1)) ∨ (53 ≤ x ∧ x < 58) ∨ (52 < x ∧ x < 58)) h' → Run 4 [some (.ref 52), some (.ref 46), some (.ref 53)] [] h' (9, 49169) := by
    intro h'  c
    refine hR 60 2 _ _ _ _ _ _ rfl ?_
    have c1 := c.newL (kd := 16) (n := 0) (fun x y p => (or_e (fun z => Nat.lt_of_lt_of_le z.2 (by decide)) (or_e (fun z => eq_lt z.1 (by decide)) (or_e (fun z => Nat.lt_of_lt_of_le z.2 (by decide)) (fun z => Nat.lt_of_lt_of_le z.2 (by decide))))) p) rfl rfl
    exact ⟨⟨Nat.le_of_ble_eq_true rfl, Nat.le_of_ble_eq_true rfl⟩, jcallV (ct_7 G _ _) ⟨c1.K 52 rfl, r15 _ ((c1.ref c.1 rfl).mono (fun x y q _ z => by omega))⟩⟩
  refine hR 60 0 _ _ _ _ _ _ rfl ?_
  exact r4 h (c.mono (fun x y q _ z => by omega))
theorem lyr_67 : ∀ {y q : Nat}, lyR2 67 y = some q → y = 1 := by
  intro y q e
  have h1 := lkp_mem (show lkp [(1, 68)] y = some q from e)
  simp only [List.mem_cons, Prod.mk.injEq, List.not_mem_nil, or_false] at h1
  omega
/-- FormHouse$Characters.<init>()V; cuts at [4, 12] -/
def cd_12 : List mj_E := [(0, false, .aload_n 0, 1, 0, 0, 0, 0, 0),
  (1, false, .invokespecial 3, 3, 0, 0, 1, 0, 0),
  (4, true, .aload_n 0, 1, 0, 0, 0, 0, 0),
  (5, false, .bipush 8, 2, 0, 0, 0, jI 8, 0),
  (7, false, .newarray .int, 2, 1, 0, 0, 0, 0),
  (9, false, .putfield 9, 3, 11, 1, 2, 0, 0),
  (12, true, .return_, 1, 0, 0, 0, 0, 0)]
def cx_12 : mj_X := (0, [], [])
theorem tb_12 : mj_tab (mj_mt 12) cx_12 cd_12 mj_mh [(0, 0, 0), (2128, 1036, 1037), (0, 0, 0), (0, 0, 0), (1063, 0, 0), (2131, 0, 0), (0, 0, 0)] = true := mj_tab_f (by decide +kernel)
theorem ct_12_67 (G : mj_G) {zx : (Nat → Int32) × Nat} {h : mj_H} {a' : Nat} (ea : a' = 67) (c : Cb zx 68 (fun x y => (1 < x ∧ x < 67) ∨ (x = 1 ∧ (y = 0 ∨ y = 1 ∨ y = 2))) h) : mj_Ct G (mj_mt 12) 1 8 [Value.ref a'] h (fun o h' => o = .returned none ∧ Cb zx 69 (fun x y => (1 < x ∧ x < 67) ∨ (x = 1 ∧ (y = 0 ∨ y = 1 ∨ y = 2)) ∨ (67 ≤ x ∧ x < 69)) h') := by
  subst ea
  refine mj_Ct_of mj_ok tb_12 rfl rfl (Nat.le_of_ble_eq_true rfl) (fun Run hR => ?_)
  have r12 : ∀ (h' : mj_H), Cb zx 69 (fun x y => (1 < x ∧ x < 67) ∨ (x = 1 ∧ (y = 0 ∨ y = 1 ∨ y = 2)) ∨ (67 < x ∧ x < 69) ∨ (x = 67 ∧ (y = 1))) h' → Run 12 [some (.ref 67)] [] h' (0, 0) := by
    intro h'  c
    refine hR 60 6 _ _ _ _ _ _ rfl ?_
    refine ⟨rfl, c.mono (fun x y q e z => ?_)⟩
    exact (Or.imp id (Or.imp id (fin_s (fun hx => by subst hx; exact lyr_67 e)))) z
  have r4 : ∀ (h' : mj_H), Cb zx 68 (fun x y => (1 < x ∧ x < 67) ∨ (x = 1 ∧ (y = 0 ∨ y = 1 ∨ y = 2)) ∨ (67 < x ∧ x < 68)) h' → Run 4 [some (.ref 67)] [] h' (1, 8) := by
    intro h'  c
    refine hR 60 2 _ _ _ _ _ _ rfl ?_
    have c1 := c.newL (kd := 1) (n := (jI 8).toNatClampNeg) (fun x y p => (or_e (fun z => Nat.lt_of_lt_of_le z.2 (by decide)) (or_e (fun z => eq_lt z.1 (by decide)) (fun z => Nat.lt_of_lt_of_le z.2 (by decide)))) p) rfl rfl
    exact ⟨⟨by decide, by decide, Nat.le_of_ble_eq_true rfl, Nat.le_of_ble_eq_true rfl⟩, c1.K 67 rfl, r12 _ ((c1.ref c.1 rfl).mono (fun x y q _ z => by omega))⟩
  refine hR 60 0 _ _ _ _ _ _ rfl ?_
  exact r4 h (c.mono (fun x y q _ z => by omega))
theorem lyr_70 : ∀ {y q : Nat}, lyR2 70 y = some q → y = 2 ∨ y = 3 := by
  intro y q e
  have h1 := lkp_mem (show lkp [(2, 71), (3, 72)] y = some q from e)
  simp only [List.mem_cons, Prod.mk.injEq, List.not_mem_nil, or_false] at h1
  omega
/-- FormHouse$Factors.<init>()V; cuts at [4, 9, 17, 25] -/
def cd_14 : List mj_E := [(0, false, .aload_n 0, 1, 0, 0, 0, 0, 0),
  (1, false, .invokespecial 3, 3, 0, 0, 1, 0, 0),
  (4, true, .aload_n 0, 1, 0, 0, 0, 0, 0),
  (5, false, .iconst 1, 1, 0, 0, 0, jI 1, 0),
  (6, false, .putfield 9, 3, 13, 0, 0, 0, 0),
  (9, true, .aload_n 0, 1, 0, 0, 0, 0, 0),
  (10, false, .bipush 8, 2, 0, 0, 0, jI 8, 0),
  (12, false, .newarray .int, 2, 1, 0, 0, 0, 0),
  (14, false, .putfield 15, 3, 13, 2, 2, 0, 0),
  (17, true, .aload_n 0, 1, 0, 0, 0, 0, 0),
  (18, false, .bipush 8, 2, 0, 0, 0, jI 8, 0),
  (20, false, .newarray .int, 2, 1, 0, 0, 0, 0),
  (22, false, .putfield 19, 3, 13, 3, 2, 0, 0),
  (25, true, .return_, 1, 0, 0, 0, 0, 0)]
def cx_14 : mj_X := (0, [], [])
theorem tb_14 : mj_tab (mj_mt 14) cx_14 cd_14 mj_mh [(0, 0, 0), (2149, 1036, 1037), (0, 0, 0), (0, 0, 0), (2150, 0, 0), (0, 0, 0), (0, 0, 0), (1063, 0, 0), (2153, 0, 0), (0, 0, 0), (0, 0, 0), (1063, 0, 0), (2155, 0, 0), (0, 0, 0)] = true := mj_tab_f (by decide +kernel)
theorem ct_14_70 (G : mj_G) {zx : (Nat → Int32) × Nat} {h : mj_H} {a' : Nat} (ea : a' = 70) (c : Cb zx 71 (fun x y => (1 < x ∧ x < 69) ∨ (x = 1 ∧ (y = 0 ∨ y = 1 ∨ y = 2 ∨ y = 3)) ∨ (69 < x ∧ x < 70)) h) : mj_Ct G (mj_mt 14) 2 16 [Value.ref a'] h (fun o h' => o = .returned none ∧ Cb zx 73 (fun x y => (1 < x ∧ x < 69) ∨ (x = 1 ∧ (y = 0 ∨ y = 1 ∨ y = 2 ∨ y = 3)) ∨ (69 < x ∧ x < 70) ∨ (70 ≤ x ∧ x < 73)) h') := by
  subst ea
  refine mj_Ct_of mj_ok tb_14 rfl rfl (Nat.le_of_ble_eq_true rfl) (fun Run hR => ?_)
  have r25 : ∀ (h' : mj_H), Cb zx 73 (fun x y => (1 < x ∧ x < 69) ∨ (x = 1 ∧ (y = 0 ∨ y = 1 ∨ y = 2 ∨ y = 3)) ∨ (69 < x ∧ x < 70) ∨ (70 < x ∧ x < 73) ∨ (x = 70 ∧ (y = 2 ∨ y = 3))) h' → Run 25 [some (.ref 70)] [] h' (0, 0) := by
    intro h'  c
    refine hR 60 13 _ _ _ _ _ _ rfl ?_
    refine ⟨rfl, c.mono (fun x y q e z => ?_)⟩
    exact (Or.imp id (Or.imp id (Or.imp id (fin_s (fun hx => by subst hx; exact lyr_70 e))))) z
  have r17 : ∀ (h' : mj_H), Cb zx 72 (fun x y => (1 < x ∧ x < 69) ∨ (x = 1 ∧ (y = 0 ∨ y = 1 ∨ y = 2 ∨ y = 3)) ∨ (69 < x ∧ x < 70) ∨ (70 < x ∧ x < 72) ∨ (x = 70 ∧ (y = 2))) h' → Run 17 [some (.ref 70)] [] h' (1, 8) := by
    intro h'  c
    refine hR 60 9 _ _ _ _ _ _ rfl ?_
    have c1 := c.newL (kd := 1) (n := (jI 8).toNatClampNeg) (fun x y p => (or_e (fun z => Nat.lt_of_lt_of_le z.2 (by decide)) (or_e (fun z => eq_lt z.1 (by decide)) (or_e (fun z => Nat.lt_of_lt_of_le z.2 (by decide)) (or_e (fun z => Nat.lt_of_lt_of_le z.2 (by decide)) (fun z => eq_lt z.1 (by decide)))))) p) rfl rfl
    exact ⟨⟨by decide, by decide, Nat.le_of_ble_eq_true rfl, Nat.le_of_ble_eq_true rfl⟩, c1.K 70 rfl, r25 _ ((c1.ref c.1 rfl).mono (fun x y q _ z => (pre_st (pre_st (pre_st (mono_s2 id)))) z))⟩
  have r9 : ∀ (h' : mj_H), Cb zx 71 (fun x y => (1 < x ∧ x < 69) ∨ (x = 1 ∧ (y = 0 ∨ y = 1 ∨ y = 2 ∨ y = 3)) ∨ (69 < x ∧ x < 70) ∨ (70 < x ∧ x < 71)) h' → Run 9 [some (.ref 70)] [] h' (2, 16) := by
    intro h'  c
    refine hR 60 5 _ _ _ _ _ _ rfl ?_
    have c1 := c.newL (kd := 1) (n := (jI 8).toNatClampNeg) (fun x y p => (or_e (fun z => Nat.lt_of_lt_of_le z.2 (by decide)) (or_e (fun z => eq_lt z.1 (by decide)) (or_e (fun z => Nat.lt_of_lt_of_le z.2 (by decide)) (fun z => Nat.lt_of_lt_of_le z.2 (by decide))))) p) rfl rfl
    exact ⟨⟨by decide, by decide, Nat.le_of_ble_eq_true rfl, Nat.le_of_ble_eq_true rfl⟩, c1.K 70 rfl, r17 _ ((c1.ref c.1 rfl).mono (fun x y q _ z => by omega))⟩
  have r4 : ∀ (h' : mj_H), Cb zx 71 (fun x y => (1 < x ∧ x < 69) ∨ (x = 1 ∧ (y = 0 ∨ y = 1 ∨ y = 2 ∨ y = 3)) ∨ (69 < x ∧ x < 70) ∨ (70 < x ∧ x < 71)) h' → Run 4 [some (.ref 70)] [] h' (2, 16) := by
    intro h'  c
    refine hR 60 2 _ _ _ _ _ _ rfl ?_
    exact ⟨c.K 70 rfl, r9 _ (c.sI _ _ _ (by decide))⟩
  refine hR 60 0 _ _ _ _ _ _ rfl ?_
  exact r4 h (c.mono (fun x y q _ z => by omega))
theorem lyr_73 : ∀ {y q : Nat}, lyR2 73 y = some q → y = 1 ∨ y = 2 ∨ y = 4 := by
  intro y q e
  have h1 := lkp_mem (show lkp [(1, 74), (2, 75), (4, 76)] y = some q from e)
  simp only [List.mem_cons, Prod.mk.injEq, List.not_mem_nil, or_false] at h1
  omega
/-- FormHouse$Roots.<init>()V; cuts at [4, 13, 22, 31] -/
def cd_15 : List mj_E := [(0, false, .aload_n 0, 1, 0, 0, 0, 0, 0),
  (1, false, .invokespecial 3, 3, 0, 0, 1, 0, 0),
  (4, true, .aload_n 0, 1, 0, 0, 0, 0, 0),
  (5, false, .sipush 4096, 3, 0, 0, 0, jI 4096, 0),
  (8, false, .newarray .int, 2, 1, 0, 0, 0, 0),
  (10, false, .putfield 9, 3, 14, 1, 2, 0, 0),
  (13, true, .aload_n 0, 1, 0, 0, 0, 0, 0),
  (14, false, .sipush 4096, 3, 0, 0, 0, jI 4096, 0),
  (17, false, .newarray .int, 2, 1, 0, 0, 0, 0),
  (19, false, .putfield 15, 3, 14, 2, 2, 0, 0),
  (22, true, .aload_n 0, 1, 0, 0, 0, 0, 0),
  (23, false, .sipush 4096, 3, 0, 0, 0, jI 4096, 0),
  (26, false, .newarray .int, 2, 1, 0, 0, 0, 0),
  (28, false, .putfield 18, 3, 14, 4, 2, 0, 0),
  (31, true, .return_, 1, 0, 0, 0, 0, 0)]
def cx_15 : mj_X := (0, [], [])
theorem tb_15 : mj_tab (mj_mt 15) cx_15 cd_15 mj_mh [(0, 0, 0), (2171, 1036, 1037), (0, 0, 0), (0, 0, 0), (1063, 0, 0), (2173, 0, 0), (0, 0, 0), (0, 0, 0), (1063, 0, 0), (2175, 0, 0), (0, 0, 0), (0, 0, 0), (1063, 0, 0), (2177, 0, 0), (0, 0, 0)] = true := mj_tab_f (by decide +kernel)
theorem ct_15_73 (G : mj_G) {zx : (Nat → Int32) × Nat} {h : mj_H} {a' : Nat} (ea : a' = 73) (c : Cb zx 74 (fun x y => (1 < x ∧ x < 69) ∨ (x = 1 ∧ (y = 0 ∨ y = 1 ∨ y = 2 ∨ y = 3)) ∨ (69 < x ∧ x < 73) ∨ (x = 69 ∧ (y = 0))) h) : mj_Ct G (mj_mt 15) 3 12288 [Value.ref a'] h (fun o h' => o = .returned none ∧ Cb zx 77 (fun x y => (1 < x ∧ x < 69) ∨ (x = 1 ∧ (y = 0 ∨ y = 1 ∨ y = 2 ∨ y = 3)) ∨ (69 < x ∧ x < 73) ∨ (x = 69 ∧ (y = 0)) ∨ (73 ≤ x ∧ x < 77)) h') := by
  subst ea
  refine mj_Ct_of mj_ok tb_15 rfl rfl (Nat.le_of_ble_eq_true rfl) (fun Run hR => ?_)
  have r31 : ∀ (h' : mj_H), Cb zx 77 (fun x y => (1 < x ∧ x < 69) ∨ (x = 1 ∧ (y = 0 ∨ y = 1 ∨ y = 2 ∨ y = 3)) ∨ (69 < x ∧ x < 73) ∨ (x = 69 ∧ (y = 0)) ∨ (73 < x ∧ x < 77) ∨ (x = 73 ∧ (y = 1 ∨ y = 2 ∨ y = 4))) h' → Run 31 [some (.ref 73)] [] h' (0, 0) := by
    intro h'  c
    refine hR 60 14 _ _ _ _ _ _ rfl ?_
    refine ⟨rfl, c.mono (fun x y q e z => ?_)⟩
    exact (Or.imp id (Or.imp id (Or.imp id (Or.imp id (fin_s (fun hx => by subst hx; exact lyr_73 e)))))) z
  have r22 : ∀ (h' : mj_H), Cb zx 76 (fun x y => (1 < x ∧ x < 69) ∨ (x = 1 ∧ (y = 0 ∨ y = 1 ∨ y = 2 ∨ y = 3)) ∨ (69 < x ∧ x < 73) ∨ (x = 69 ∧ (y = 0)) ∨ (73 < x ∧ x < 76) ∨ (x = 73 ∧ (y = 1 ∨ y = 2))) h' → Run 22 [some (.ref 73)] [] h' (1, 4096) := by
    intro h'  c
    refine hR 60 10 _ _ _ _ _ _ rfl ?_
    have c1 := c.newL (kd := 1) (n := (jI 4096).toNatClampNeg) (fun x y p => (or_e (fun z => Nat.lt_of_lt_of_le z.2 (by decide)) (or_e (fun z => eq_lt z.1 (by decide)) (or_e (fun z => Nat.lt_of_lt_of_le z.2 (by decide)) (or_e (fun z => eq_lt z.1 (by decide)) (or_e (fun z => Nat.lt_of_lt_of_le z.2 (by decide)) (fun z => eq_lt z.1 (by decide))))))) p) rfl rfl
    exact ⟨⟨by decide, by decide, Nat.le_of_ble_eq_true rfl, Nat.le_of_ble_eq_true rfl⟩, c1.K 73 rfl, r31 _ ((c1.ref c.1 rfl).mono (fun x y q _ z => (pre_st (pre_st (pre_st (pre_st (mono_s2 (or_st id)))))) z))⟩
  have r13 : ∀ (h' : mj_H), Cb zx 75 (fun x y => (1 < x ∧ x < 69) ∨ (x = 1 ∧ (y = 0 ∨ y = 1 ∨ y = 2 ∨ y = 3)) ∨ (69 < x ∧ x < 73) ∨ (x = 69 ∧ (y = 0)) ∨ (73 < x ∧ x < 75) ∨ (x = 73 ∧ (y = 1))) h' → Run 13 [some (.ref 73)] [] h' (2, 8192) := by
    intro h'  c
    refine hR 60 6 _ _ _ _ _ _ rfl ?_
    have c1 := c.newL (kd := 1) (n := (jI 4096).toNatClampNeg) (fun x y p => (or_e (fun z => Nat.lt_of_lt_of_le z.2 (by decide)) (or_e (fun z => eq_lt z.1 (by decide)) (or_e (fun z => Nat.lt_of_lt_of_le z.2 (by decide)) (or_e (fun z => eq_lt z.1 (by decide)) (or_e (fun z => Nat.lt_of_lt_of_le z.2 (by decide)) (fun z => eq_lt z.1 (by decide))))))) p) rfl rfl
    exact ⟨⟨by decide, by decide, Nat.le_of_ble_eq_true rfl, Nat.le_of_ble_eq_true rfl⟩, c1.K 73 rfl, r22 _ ((c1.ref c.1 rfl).mono (fun x y q _ z => (pre_st (pre_st (pre_st (pre_st (mono_s2 id))))) z))⟩
  have r4 : ∀ (h' : mj_H), Cb zx 74 (fun x y => (1 < x ∧ x < 69) ∨ (x = 1 ∧ (y = 0 ∨ y = 1 ∨ y = 2 ∨ y = 3)) ∨ (69 < x ∧ x < 73) ∨ (x = 69 ∧ (y = 0)) ∨ (73 < x ∧ x < 74)) h' → Run 4 [some (.ref 73)] [] h' (3, 12288) := by
    intro h'  c
    refine hR 60 2 _ _ _ _ _ _ rfl ?_
    have c1 := c.newL (kd := 1) (n := (jI 4096).toNatClampNeg) (fun x y p => (or_e (fun z => Nat.lt_of_lt_of_le z.2 (by decide)) (or_e (fun z => eq_lt z.1 (by decide)) (or_e (fun z => Nat.lt_of_lt_of_le z.2 (by decide)) (or_e (fun z => eq_lt z.1 (by decide)) (fun z => Nat.lt_of_lt_of_le z.2 (by decide)))))) p) rfl rfl
    exact ⟨⟨by decide, by decide, Nat.le_of_ble_eq_true rfl, Nat.le_of_ble_eq_true rfl⟩, c1.K 73 rfl, r13 _ ((c1.ref c.1 rfl).mono (fun x y q _ z => by omega))⟩
  refine hR 60 0 _ _ _ _ _ _ rfl ?_
  exact r4 h (c.mono (fun x y q _ z => by omega))
theorem lyr_69 : ∀ {y q : Nat}, lyR2 69 y = some q → y = 0 ∨ y = 1 ∨ y = 2 ∨ y = 4 ∨ y = 5 ∨ y = 6 ∨ y = 7 ∨ y = 8 ∨ y = 9 ∨ y = 10 := by
  intro y q e
  have h1 := lkp_mem (show lkp [(0, 70), (1, 73), (2, 77), (4, 78), (5, 79), (6, 80), (7, 81), (8, 82), (9, 83), (10, 84)] y = some q from e)
  simp only [List.mem_cons, Prod.mk.injEq, List.not_mem_nil, or_false] at h1
  omega
/-- FormHouse$Trials.<init>()V; cuts at [4, 15, 26, 37, 46, 55, 64, 73, 82, 91, 100] -/
def cl_13_1 : List mj_E := (52, false, .putfield 36, 3, 12, 5, 2, 0, 0) ::
  (55, true, .aload_n 0, 1, 0, 0, 0, 0, 0) ::
  (56, false, .sipush 8192, 3, 0, 0, 0, jI 8192, 0) ::
  (59, false, .newarray .long, 2, 2, 0, 0, 0, 0) ::
  (61, false, .putfield 39, 3, 12, 6, 2, 0, 0) ::
  (64, true, .aload_n 0, 1, 0, 0, 0, 0, 0) ::
  (65, false, .sipush 8192, 3, 0, 0, 0, jI 8192, 0) ::
  (68, false, .newarray .long, 2, 2, 0, 0, 0, 0) ::
  (70, false, .putfield 43, 3, 12, 7, 2, 0, 0) ::
  (73, true, .aload_n 0, 1, 0, 0, 0, 0, 0) ::
  (74, false, .sipush 8192, 3, 0, 0, 0, jI 8192, 0) ::
  (77, false, .newarray .long, 2, 2, 0, 0, 0, 0) ::
  (79, false, .putfield 46, 3, 12, 8, 2, 0, 0) ::
  (82, true, .aload_n 0, 1, 0, 0, 0, 0, 0) ::
  (83, false, .sipush 8192, 3, 0, 0, 0, jI 8192, 0) ::
  (86, false, .newarray .long, 2, 2, 0, 0, 0, 0) ::
  (88, false, .putfield 49, 3, 12, 9, 2, 0, 0) ::
  (91, true, .aload_n 0, 1, 0, 0, 0, 0, 0) ::
  (92, false, .sipush 8192, 3, 0, 0, 0, jI 8192, 0) ::
  (95, false, .newarray .boolean, 2, 4, 0, 0, 0, 0) ::
  (97, false, .putfield 52, 3, 12, 10, 2, 0, 0) ::
  (100, true, .return_, 1, 0, 0, 0, 0, 0) ::
  []
def cl_13_0 : List mj_E := (0, false, .aload_n 0, 1, 0, 0, 0, 0, 0) ::
  (1, false, .invokespecial 3, 3, 0, 0, 1, 0, 0) ::
  (4, true, .aload_n 0, 1, 0, 0, 0, 0, 0) ::
  (5, false, .new 9, 3, 23, 4, 0, 0, 0) ::
  (8, false, .dup, 1, 0, 0, 0, 0, 0) ::
  (9, false, .invokespecial 11, 3, 14, 0, 0, 0, 0) ::
  (12, false, .putfield 12, 3, 12, 0, 2, 0, 0) ::
  (15, true, .aload_n 0, 1, 0, 0, 0, 0, 0) ::
  (16, false, .new 18, 3, 24, 5, 0, 0, 0) ::
  (19, false, .dup, 1, 0, 0, 0, 0, 0) ::
  (20, false, .invokespecial 20, 3, 15, 0, 0, 0, 0) ::
  (23, false, .putfield 21, 3, 12, 1, 2, 0, 0) ::
  (26, true, .aload_n 0, 1, 0, 0, 0, 0, 0) ::
  (27, false, .new 25, 3, 16, 3, 0, 0, 0) ::
  (30, false, .dup, 1, 0, 0, 0, 0, 0) ::
  (31, false, .invokespecial 27, 3, 7, 0, 0, 0, 0) ::
  (34, false, .putfield 28, 3, 12, 2, 2, 0, 0) ::
  (37, true, .aload_n 0, 1, 0, 0, 0, 0, 0) ::
  (38, false, .sipush 8192, 3, 0, 0, 0, jI 8192, 0) ::
  (41, false, .newarray .int, 2, 1, 0, 0, 0, 0) ::
  (43, false, .putfield 32, 3, 12, 4, 2, 0, 0) ::
  (46, true, .aload_n 0, 1, 0, 0, 0, 0, 0) ::
  (47, false, .sipush 8192, 3, 0, 0, 0, jI 8192, 0) ::
  (50, false, .newarray .int, 2, 1, 0, 0, 0, 0) ::
  cl_13_1
def cd_13 : List mj_E := cl_13_0
def cx_13 : mj_X := (0, [], [])
theorem tb_13 : mj_tab (mj_mt 13) cx_13 cd_13 mj_mh [(0, 0, 0), (2143, 1036, 1037), (0, 0, 0), (2144, 2145, 1014), (0, 0, 0), (2146, 0, 0), (2191, 0, 0), (0, 0, 0), (2166, 2167, 1015), (0, 0, 0), (2168, 0, 0), (2192, 0, 0), (0, 0, 0), (2189, 1151, 1007), (0, 0, 0), (2190, 0, 0), (2193, 0, 0), (0, 0, 0), (0, 0, 0), (1063, 0, 0), (2196, 0, 0), (0, 0, 0), (0, 0, 0), (1063, 0, 0), (2198, 0, 0), (0, 0, 0), (0, 0, 0), (2237, 0, 0), (2200, 0, 0), (0, 0, 0), (0, 0, 0), (2237, 0, 0), (2202, 0, 0), (0, 0, 0), (0, 0, 0), (2237, 0, 0), (2204, 0, 0), (0, 0, 0), (0, 0, 0), (2237, 0, 0), (2206, 0, 0), (0, 0, 0), (0, 0, 0), (2122, 0, 0), (2208, 0, 0), (0, 0, 0)] = true := mj_tab_f (by decide +kernel)
theorem ct_13_69 (G : mj_G) {zx : (Nat → Int32) × Nat} {h : mj_H} {a' : Nat} (ea : a' = 69) (c : Cb zx 70 (fun x y => (1 < x ∧ x < 69) ∨ (x = 1 ∧ (y = 0 ∨ y = 1 ∨ y = 2 ∨ y = 3))) h) : mj_Ct G (mj_mt 13) 15 69660 [Value.ref a'] h (fun o h' => o = .returned none ∧ Cb zx 85 (fun x y => (1 < x ∧ x < 69) ∨ (x = 1 ∧ (y = 0 ∨ y = 1 ∨ y = 2 ∨ y = 3)) ∨ (69 ≤ x ∧ x < 85)) h') := by
  subst ea
  refine mj_Ct_of mj_ok tb_13 rfl rfl (Nat.le_of_ble_eq_true rfl) (fun Run hR => ?_)
  have r100 : ∀ (h' : mj_H), Cb zx 85 (fun x y => (1 < x ∧ x < 69) ∨ (x = 1 ∧ (y = 0 ∨ y = 1 ∨ y = 2 ∨ y = 3)) ∨ (69 < x ∧ x < 85) ∨ (x = 69 ∧ (y = 0 ∨ y = 1 ∨ y = 2 ∨ y = 4 ∨ y = 5 ∨ y = 6 ∨ y = 7 ∨ y = 8 ∨ y = 9 ∨ y = 10))) h' → Run 100 [some (.ref 69)] [] h' (0, 0) := by
    intro h'  c
    refine hR 60 45 _ _ _ _ _ _ rfl ?_
    refine ⟨rfl, c.mono (fun x y q e z => ?_)⟩
    exact (Or.imp id (Or.imp id (fin_s (fun hx => by subst hx; exact lyr_69 e)))) z
  have r91 : ∀ (h' : mj_H), Cb zx 84 (fun x y => (1 < x ∧ x < 69) ∨ (x = 1 ∧ (y = 0 ∨ y = 1 ∨ y = 2 ∨ y = 3)) ∨ (69 < x ∧ x < 84) ∨ (x = 69 ∧ (y = 0 ∨ y = 1 ∨ y = 2 ∨ y = 4 ∨ y = 5 ∨ y = 6 ∨ y = 7 ∨ y = 8 ∨ y = 9))) h' → Run 91 [some (.ref 69)] [] h' (1, 8192) := by
    intro h'  c
    refine hR 60 41 _ _ _ _ _ _ rfl ?_
    have c1 := c.newL (kd := 4) (n := (jI 8192).toNatClampNeg) (fun x y p => (or_e (fun z => Nat.lt_of_lt_of_le z.2 (by decide)) (or_e (fun z => eq_lt z.1 (by decide)) (or_e (fun z => Nat.lt_of_lt_of_le z.2 (by decide)) (fun z => eq_lt z.1 (by decide))))) p) rfl rfl
    exact ⟨⟨by decide, by decide, Nat.le_of_ble_eq_true rfl, Nat.le_of_ble_eq_true rfl⟩, c1.K 69 rfl, r100 _ ((c1.ref c.1 rfl).mono (fun x y q _ z => (pre_st (pre_st (mono_s2 (or_st (or_st (or_st (or_st (or_st (or_st (or_st (or_st id))))))))))) z))⟩
  have r82 : ∀ (h' : mj_H), Cb zx 83 (fun x y => (1 < x ∧ x < 69) ∨ (x = 1 ∧ (y = 0 ∨ y = 1 ∨ y = 2 ∨ y = 3)) ∨ (69 < x ∧ x < 83) ∨ (x = 69 ∧ (y = 0 ∨ y = 1 ∨ y = 2 ∨ y = 4 ∨ y = 5 ∨ y = 6 ∨ y = 7 ∨ y = 8))) h' → Run 82 [some (.ref 69)] [] h' (2, 16384) := by
    intro h'  c
    refine hR 60 37 _ _ _ _ _ _ rfl ?_
    have c1 := c.newL (kd := 2) (n := (jI 8192).toNatClampNeg) (fun x y p => (or_e (fun z => Nat.lt_of_lt_of_le z.2 (by decide)) (or_e (fun z => eq_lt z.1 (by decide)) (or_e (fun z => Nat.lt_of_lt_of_le z.2 (by decide)) (fun z => eq_lt z.1 (by decide))))) p) rfl rfl
    exact ⟨⟨by decide, by decide, Nat.le_of_ble_eq_true rfl, Nat.le_of_ble_eq_true rfl⟩, c1.K 69 rfl, r91 _ ((c1.ref c.1 rfl).mono (fun x y q _ z => (pre_st (pre_st (mono_s2 (or_st (or_st (or_st (or_st (or_st (or_st (or_st id)))))))))) z))⟩
  have r73 : ∀ (h' : mj_H), Cb zx 82 (fun x y => (1 < x ∧ x < 69) ∨ (x = 1 ∧ (y = 0 ∨ y = 1 ∨ y = 2 ∨ y = 3)) ∨ (69 < x ∧ x < 82) ∨ (x = 69 ∧ (y = 0 ∨ y = 1 ∨ y = 2 ∨ y = 4 ∨ y = 5 ∨ y = 6 ∨ y = 7))) h' → Run 73 [some (.ref 69)] [] h' (3, 24576) := by
    intro h'  c
    refine hR 60 33 _ _ _ _ _ _ rfl ?_
    have c1 := c.newL (kd := 2) (n := (jI 8192).toNatClampNeg) (fun x y p => (or_e (fun z => Nat.lt_of_lt_of_le z.2 (by decide)) (or_e (fun z => eq_lt z.1 (by decide)) (or_e (fun z => Nat.lt_of_lt_of_le z.2 (by decide)) (fun z => eq_lt z.1 (by decide))))) p) rfl rfl
    exact ⟨⟨by decide, by decide, Nat.le_of_ble_eq_true rfl, Nat.le_of_ble_eq_true rfl⟩, c1.K 69 rfl, r82 _ ((c1.ref c.1 rfl).mono (fun x y q _ z => (pre_st (pre_st (mono_s2 (or_st (or_st (or_st (or_st (or_st (or_st id))))))))) z))⟩
  have r64 : ∀ (h' : mj_H), Cb zx 81 (fun x y => (1 < x ∧ x < 69) ∨ (x = 1 ∧ (y = 0 ∨ y = 1 ∨ y = 2 ∨ y = 3)) ∨ (69 < x ∧ x < 81) ∨ (x = 69 ∧ (y = 0 ∨ y = 1 ∨ y = 2 ∨ y = 4 ∨ y = 5 ∨ y = 6))) h' → Run 64 [some (.ref 69)] [] h' (4, 32768) := by
    intro h'  c
    refine hR 60 29 _ _ _ _ _ _ rfl ?_
    have c1 := c.newL (kd := 2) (n := (jI 8192).toNatClampNeg) (fun x y p => (or_e (fun z => Nat.lt_of_lt_of_le z.2 (by decide)) (or_e (fun z => eq_lt z.1 (by decide)) (or_e (fun z => Nat.lt_of_lt_of_le z.2 (by decide)) (fun z => eq_lt z.1 (by decide))))) p) rfl rfl
    exact ⟨⟨by decide, by decide, Nat.le_of_ble_eq_true rfl, Nat.le_of_ble_eq_true rfl⟩, c1.K 69 rfl, r73 _ ((c1.ref c.1 rfl).mono (fun x y q _ z => (pre_st (pre_st (mono_s2 (or_st (or_st (or_st (or_st (or_st id)))))))) z))⟩
  have r55 : ∀ (h' : mj_H), Cb zx 80 (fun x y => (1 < x ∧ x < 69) ∨ (x = 1 ∧ (y = 0 ∨ y = 1 ∨ y = 2 ∨ y = 3)) ∨ (69 < x ∧ x < 80) ∨ (x = 69 ∧ (y = 0 ∨ y = 1 ∨ y = 2 ∨ y = 4 ∨ y = 5))) h' → Run 55 [some (.ref 69)] [] h' (5, 40960) := by
    intro h'  c
    refine hR 60 25 _ _ _ _ _ _ rfl ?_
    have c1 := c.newL (kd := 2) (n := (jI 8192).toNatClampNeg) (fun x y p => (or_e (fun z => Nat.lt_of_lt_of_le z.2 (by decide)) (or_e (fun z => eq_lt z.1 (by decide)) (or_e (fun z => Nat.lt_of_lt_of_le z.2 (by decide)) (fun z => eq_lt z.1 (by decide))))) p) rfl rfl
    exact ⟨⟨by decide, by decide, Nat.le_of_ble_eq_true rfl, Nat.le_of_ble_eq_true rfl⟩, c1.K 69 rfl, r64 _ ((c1.ref c.1 rfl).mono (fun x y q _ z => (pre_st (pre_st (mono_s2 (or_st (or_st (or_st (or_st id))))))) z))⟩
  have r46 : ∀ (h' : mj_H), Cb zx 79 (fun x y => (1 < x ∧ x < 69) ∨ (x = 1 ∧ (y = 0 ∨ y = 1 ∨ y = 2 ∨ y = 3)) ∨ (69 < x ∧ x < 79) ∨ (x = 69 ∧ (y = 0 ∨ y = 1 ∨ y = 2 ∨ y = 4))) h' → Run 46 [some (.ref 69)] [] h' (6, 49152) := by
    intro h'  c
    refine hR 60 21 _ _ _ _ _ _ rfl ?_
    have c1 := c.newL (kd := 1) (n := (jI 8192).toNatClampNeg) (fun x y p => (or_e (fun z => Nat.lt_of_lt_of_le z.2 (by decide)) (or_e (fun z => eq_lt z.1 (by decide)) (or_e (fun z => Nat.lt_of_lt_of_le z.2 (by decide)) (fun z => eq_lt z.1 (by decide))))) p) rfl rfl
    exact ⟨⟨by decide, by decide, Nat.le_of_ble_eq_true rfl, Nat.le_of_ble_eq_true rfl⟩, c1.K 69 rfl, r55 _ ((c1.ref c.1 rfl).mono (fun x y q _ z => (pre_st (pre_st (mono_s2 (or_st (or_st (or_st id)))))) z))⟩
  have r37 : ∀ (h' : mj_H), Cb zx 78 (fun x y => (1 < x ∧ x < 69) ∨ (x = 1 ∧ (y = 0 ∨ y = 1 ∨ y = 2 ∨ y = 3)) ∨ (69 < x ∧ x < 78) ∨ (x = 69 ∧ (y = 0 ∨ y = 1 ∨ y = 2))) h' → Run 37 [some (.ref 69)] [] h' (7, 57344) := by
    intro h'  c
    refine hR 60 17 _ _ _ _ _ _ rfl ?_
    have c1 := c.newL (kd := 1) (n := (jI 8192).toNatClampNeg) (fun x y p => (or_e (fun z => Nat.lt_of_lt_of_le z.2 (by decide)) (or_e (fun z => eq_lt z.1 (by decide)) (or_e (fun z => Nat.lt_of_lt_of_le z.2 (by decide)) (fun z => eq_lt z.1 (by decide))))) p) rfl rfl
    exact ⟨⟨by decide, by decide, Nat.le_of_ble_eq_true rfl, Nat.le_of_ble_eq_true rfl⟩, c1.K 69 rfl, r46 _ ((c1.ref c.1 rfl).mono (fun x y q _ z => (pre_st (pre_st (mono_s2 (or_st (or_st id))))) z))⟩
  have r26 : ∀ (h' : mj_H), Cb zx 77 (fun x y => (1 < x ∧ x < 69) ∨ (x = 1 ∧ (y = 0 ∨ y = 1 ∨ y = 2 ∨ y = 3)) ∨ (69 < x ∧ x < 77) ∨ (x = 69 ∧ (y = 0 ∨ y = 1))) h' → Run 26 [some (.ref 69)] [] h' (8, 57347) := by
    intro h'  c
    refine hR 60 12 _ _ _ _ _ _ rfl ?_
    have c1 := c.newL (kd := 16) (n := 0) (fun x y p => (or_e (fun z => Nat.lt_of_lt_of_le z.2 (by decide)) (or_e (fun z => eq_lt z.1 (by decide)) (or_e (fun z => Nat.lt_of_lt_of_le z.2 (by decide)) (fun z => eq_lt z.1 (by decide))))) p) rfl rfl
    exact ⟨⟨Nat.le_of_ble_eq_true rfl, Nat.le_of_ble_eq_true rfl⟩, jcallV (ct_7 G _ _) ⟨c1.K 69 rfl, r37 _ ((c1.ref c.1 rfl).mono (fun x y q _ z => (pre_st (pre_st (mono_s2 (or_st id)))) z))⟩⟩
  have r15 : ∀ (h' : mj_H), Cb zx 73 (fun x y => (1 < x ∧ x < 69) ∨ (x = 1 ∧ (y = 0 ∨ y = 1 ∨ y = 2 ∨ y = 3)) ∨ (69 < x ∧ x < 73) ∨ (x = 69 ∧ (y = 0))) h' → Run 15 [some (.ref 69)] [] h' (12, 69640) := by
    intro h'  c
    refine hR 60 7 _ _ _ _ _ _ rfl ?_
    refine ⟨⟨Nat.le_of_ble_eq_true rfl, Nat.le_of_ble_eq_true rfl⟩, jcallB (ct_15_73 G c.1 (c.new (fun x y p => (or_e (fun z => Nat.lt_of_lt_of_le z.2 (by decide)) (or_e (fun z => eq_lt z.1 (by decide)) (or_e (fun z => Nat.lt_of_lt_of_le z.2 (by decide)) (fun z => eq_lt z.1 (by decide))))) p) rfl rfl)) rfl rfl ?_⟩
    intro h2 c2
    exact ⟨c2.K 69 rfl, r26 _ ((c2.ref c.1 rfl).mono (fun x y q _ z => by omega))⟩
  have r4 : ∀ (h' : mj_H), Cb zx 70 (fun x y => (1 < x ∧ x < 69) ∨ (x = 1 ∧ (y = 0 ∨ y = 1 ∨ y = 2 ∨ y = 3)) ∨ (69 < x ∧ x < 70)) h' → Run 4 [some (.ref 69)] [] h' (15, 69660) := by
    intro h'  c
    refine hR 60 2 _ _ _ _ _ _ rfl ?_
    refine ⟨⟨Nat.le_of_ble_eq_true rfl, Nat.le_of_ble_eq_true rfl⟩, jcallB (ct_14_70 G c.1 (c.new (fun x y p => (or_e (fun z => Nat.lt_of_lt_of_le z.2 (by decide)) (or_e (fun z => eq_lt z.1 (by decide)) (fun z => Nat.lt_of_lt_of_le z.2 (by decide)))) p) rfl rfl)) rfl rfl ?_⟩
    intro h2 c2
    exact ⟨c2.K 69 rfl, r15 _ ((c2.ref c.1 rfl).mono (fun x y q _ z => by omega))⟩
  refine hR 60 0 _ _ _ _ _ _ rfl ?_
  exact r4 h (c.mono (fun x y q _ z => by omega))
theorem lyr_85 : ∀ {y q : Nat}, lyR2 85 y = some q → y = 0 ∨ y = 1 ∨ y = 2 ∨ y = 3 := by
  intro y q e
  have h1 := lkp_mem (show lkp [(0, 86), (1, 88), (2, 90), (3, 92)] y = some q from e)
  simp only [List.mem_cons, Prod.mk.injEq, List.not_mem_nil, or_false] at h1
  omega
/-- FormHouse$Mover.<init>()V; cuts at [4, 15, 26, 37, 48] -/
def cd_16 : List mj_E := [(0, false, .aload_n 0, 1, 0, 0, 0, 0, 0),
  (1, false, .invokespecial 1, 3, 0, 0, 1, 0, 0),
  (4, true, .aload_n 0, 1, 0, 0, 0, 0, 0),
  (5, false, .new 7, 3, 15, 3, 0, 0, 0),
  (8, false, .dup, 1, 0, 0, 0, 0, 0),
  (9, false, .invokespecial 9, 3, 6, 0, 0, 0, 0),
  (12, false, .putfield 10, 3, 15, 0, 2, 0, 0),
  (15, true, .aload_n 0, 1, 0, 0, 0, 0, 0),
  (16, false, .new 7, 3, 15, 3, 0, 0, 0),
  (19, false, .dup, 1, 0, 0, 0, 0, 0),
  (20, false, .invokespecial 9, 3, 6, 0, 0, 0, 0),
  (23, false, .putfield 16, 3, 15, 1, 2, 0, 0),
  (26, true, .aload_n 0, 1, 0, 0, 0, 0, 0),
  (27, false, .new 7, 3, 15, 3, 0, 0, 0),
  (30, false, .dup, 1, 0, 0, 0, 0, 0),
  (31, false, .invokespecial 9, 3, 6, 0, 0, 0, 0),
  (34, false, .putfield 19, 3, 15, 2, 2, 0, 0),
  (37, true, .aload_n 0, 1, 0, 0, 0, 0, 0),
  (38, false, .new 22, 3, 26, 2, 0, 0, 0),
  (41, false, .dup, 1, 0, 0, 0, 0, 0),
  (42, false, .invokespecial 24, 3, 17, 0, 0, 0, 0),
  (45, false, .putfield 25, 3, 15, 3, 2, 0, 0),
  (48, true, .return_, 1, 0, 0, 0, 0, 0)]
def cx_16 : mj_X := (0, [], [])
theorem tb_16 : mj_tab (mj_mt 16) cx_16 cd_16 mj_mh [(0, 0, 0), (3003, 1036, 1037), (0, 0, 0), (3004, 1092, 1006), (0, 0, 0), (3005, 0, 0), (3025, 0, 0), (0, 0, 0), (3004, 1092, 1006), (0, 0, 0), (3005, 0, 0), (3026, 0, 0), (0, 0, 0), (3004, 1092, 1006), (0, 0, 0), (3005, 0, 0), (3027, 0, 0), (0, 0, 0), (3006, 3007, 1017), (0, 0, 0), (3008, 0, 0), (3028, 0, 0), (0, 0, 0)] = true := mj_tab_f (by decide +kernel)
theorem ct_16_85 (G : mj_G) {zx : (Nat → Int32) × Nat} {h : mj_H} {a' : Nat} (ea : a' = 85) (c : Cb zx 86 (fun x y => (1 < x ∧ x < 85) ∨ (x = 1 ∧ (y = 0 ∨ y = 1 ∨ y = 2 ∨ y = 3 ∨ y = 4))) h) : mj_Ct G (mj_mt 16) 11 5137 [Value.ref a'] h (fun o h' => o = .returned none ∧ Cb zx 97 (fun x y => (1 < x ∧ x < 85) ∨ (x = 1 ∧ (y = 0 ∨ y = 1 ∨ y = 2 ∨ y = 3 ∨ y = 4)) ∨ (85 ≤ x ∧ x < 97)) h') := by
  subst ea
  refine mj_Ct_of mj_ok tb_16 rfl rfl (Nat.le_of_ble_eq_true rfl) (fun Run hR => ?_)
  have r48 : ∀ (h' : mj_H), Cb zx 97 (fun x y => (1 < x ∧ x < 85) ∨ (x = 1 ∧ (y = 0 ∨ y = 1 ∨ y = 2 ∨ y = 3 ∨ y = 4)) ∨ (85 < x ∧ x < 97) ∨ (x = 85 ∧ (y = 0 ∨ y = 1 ∨ y = 2 ∨ y = 3))) h' → Run 48 [some (.ref 85)] [] h' (0, 0) := by
    intro h'  c
    refine hR 60 22 _ _ _ _ _ _ rfl ?_
    refine ⟨rfl, c.mono (fun x y q e z => ?_)⟩
    exact (Or.imp id (Or.imp id (fin_s (fun hx => by subst hx; exact lyr_85 e)))) z
  have r37 : ∀ (h' : mj_H), Cb zx 92 (fun x y => (1 < x ∧ x < 85) ∨ (x = 1 ∧ (y = 0 ∨ y = 1 ∨ y = 2 ∨ y = 3 ∨ y = 4)) ∨ (85 < x ∧ x < 92) ∨ (x = 85 ∧ (y = 0 ∨ y = 1 ∨ y = 2))) h' → Run 37 [some (.ref 85)] [] h' (5, 2056) := by
    intro h'  c
    refine hR 60 17 _ _ _ _ _ _ rfl ?_
    refine ⟨⟨Nat.le_of_ble_eq_true rfl, Nat.le_of_ble_eq_true rfl⟩, jcallB (ct_17 G c.1 (a := 92) ⟨rfl, ⟨rfl, rfl, rfl, rfl⟩, ⟨rfl, rfl, rfl, rfl⟩, rfl⟩ (fun x y p => (or_e (fun z => Nat.lt_of_lt_of_le z.2 (by decide)) (or_e (fun z => eq_lt z.1 (by decide)) (or_e (fun z => Nat.lt_of_lt_of_le z.2 (by decide)) (fun z => eq_lt z.1 (by decide))))) p) (c.new (kd := 26) (n := 0) (fun x y p => (or_e (fun z => Nat.lt_of_lt_of_le z.2 (by decide)) (or_e (fun z => eq_lt z.1 (by decide)) (or_e (fun z => Nat.lt_of_lt_of_le z.2 (by decide)) (fun z => eq_lt z.1 (by decide))))) p) rfl rfl)) rfl rfl ?_⟩
    intro h2 c2
    exact ⟨c2.K 85 rfl, r48 _ ((c2.ref c.1 rfl).mono (fun x y q _ z => (pre_st (pre_st (mono_s3 (or_st (or_st id))))) z))⟩
  have r26 : ∀ (h' : mj_H), Cb zx 90 (fun x y => (1 < x ∧ x < 85) ∨ (x = 1 ∧ (y = 0 ∨ y = 1 ∨ y = 2 ∨ y = 3 ∨ y = 4)) ∨ (85 < x ∧ x < 90) ∨ (x = 85 ∧ (y = 0 ∨ y = 1))) h' → Run 26 [some (.ref 85)] [] h' (7, 3083) := by
    intro h'  c
    refine hR 60 12 _ _ _ _ _ _ rfl ?_
    refine ⟨⟨Nat.le_of_ble_eq_true rfl, Nat.le_of_ble_eq_true rfl⟩, jcallB (ct_6 G c.1 (a := 90) ⟨rfl, rfl, rfl, rfl⟩ (fun x y p => (or_e (fun z => Nat.lt_of_lt_of_le z.2 (by decide)) (or_e (fun z => eq_lt z.1 (by decide)) (or_e (fun z => Nat.lt_of_lt_of_le z.2 (by decide)) (fun z => eq_lt z.1 (by decide))))) p) (c.new (kd := 15) (n := 0) (fun x y p => (or_e (fun z => Nat.lt_of_lt_of_le z.2 (by decide)) (or_e (fun z => eq_lt z.1 (by decide)) (or_e (fun z => Nat.lt_of_lt_of_le z.2 (by decide)) (fun z => eq_lt z.1 (by decide))))) p) rfl rfl)) rfl rfl ?_⟩
    intro h2 c2
    exact ⟨c2.K 85 rfl, r37 _ ((c2.ref c.1 rfl).mono (fun x y q _ z => (pre_st (pre_st (mono_s3 (or_st id)))) z))⟩
  have r15 : ∀ (h' : mj_H), Cb zx 88 (fun x y => (1 < x ∧ x < 85) ∨ (x = 1 ∧ (y = 0 ∨ y = 1 ∨ y = 2 ∨ y = 3 ∨ y = 4)) ∨ (85 < x ∧ x < 88) ∨ (x = 85 ∧ (y = 0))) h' → Run 15 [some (.ref 85)] [] h' (9, 4110) := by
    intro h'  c
    refine hR 60 7 _ _ _ _ _ _ rfl ?_
    refine ⟨⟨Nat.le_of_ble_eq_true rfl, Nat.le_of_ble_eq_true rfl⟩, jcallB (ct_6 G c.1 (a := 88) ⟨rfl, rfl, rfl, rfl⟩ (fun x y p => (or_e (fun z => Nat.lt_of_lt_of_le z.2 (by decide)) (or_e (fun z => eq_lt z.1 (by decide)) (or_e (fun z => Nat.lt_of_lt_of_le z.2 (by decide)) (fun z => eq_lt z.1 (by decide))))) p) (c.new (kd := 15) (n := 0) (fun x y p => (or_e (fun z => Nat.lt_of_lt_of_le z.2 (by decide)) (or_e (fun z => eq_lt z.1 (by decide)) (or_e (fun z => Nat.lt_of_lt_of_le z.2 (by decide)) (fun z => eq_lt z.1 (by decide))))) p) rfl rfl)) rfl rfl ?_⟩
    intro h2 c2
    exact ⟨c2.K 85 rfl, r26 _ ((c2.ref c.1 rfl).mono (fun x y q _ z => (pre_st (pre_st (mono_s3 id))) z))⟩
  have r4 : ∀ (h' : mj_H), Cb zx 86 (fun x y => (1 < x ∧ x < 85) ∨ (x = 1 ∧ (y = 0 ∨ y = 1 ∨ y = 2 ∨ y = 3 ∨ y = 4)) ∨ (85 < x ∧ x < 86)) h' → Run 4 [some (.ref 85)] [] h' (11, 5137) := by
    intro h'  c
    refine hR 60 2 _ _ _ _ _ _ rfl ?_
    refine ⟨⟨Nat.le_of_ble_eq_true rfl, Nat.le_of_ble_eq_true rfl⟩, jcallB (ct_6 G c.1 (a := 86) ⟨rfl, rfl, rfl, rfl⟩ (fun x y p => (or_e (fun z => Nat.lt_of_lt_of_le z.2 (by decide)) (or_e (fun z => eq_lt z.1 (by decide)) (fun z => Nat.lt_of_lt_of_le z.2 (by decide)))) p) (c.new (kd := 15) (n := 0) (fun x y p => (or_e (fun z => Nat.lt_of_lt_of_le z.2 (by decide)) (or_e (fun z => eq_lt z.1 (by decide)) (fun z => Nat.lt_of_lt_of_le z.2 (by decide)))) p) rfl rfl)) rfl rfl ?_⟩
    intro h2 c2
    exact ⟨c2.K 85 rfl, r15 _ ((c2.ref c.1 rfl).mono (fun x y q _ z => by omega))⟩
  refine hR 60 0 _ _ _ _ _ _ rfl ?_
  exact r4 h (c.mono (fun x y q _ z => by omega))
theorem lyr_99 : ∀ {y q : Nat}, lyR2 99 y = some q → y = 0 ∨ y = 1 ∨ y = 2 ∨ y = 3 ∨ y = 4 ∨ y = 5 := by
  intro y q e
  have e' : (match Nat.blt y 6 with | true => some (99 + 1 + 2 * y) | false => none) = some q := e
  cases g : Nat.blt y 6 with
  | true =>
    have := Nat.le_of_ble_eq_true g
    omega
  | false =>
    rw [g] at e'
    cases e'
theorem ct_5_99 (G : mj_G) {zx : (Nat → Int32) × Nat} {h : mj_H} {a' : Nat} (ea : a' = 99) (c : Cb zx 100 (fun x y => (1 < x ∧ x < 99) ∨ (x = 1 ∧ (y = 0 ∨ y = 1 ∨ y = 2 ∨ y = 3 ∨ y = 4 ∨ y = 5 ∨ y = 6 ∨ y = 7))) h) : mj_Ct G (mj_mt 5) 12 6162 [Value.ref a'] h (fun o h' => o = .returned none ∧ Cb zx 112 (fun x y => (1 < x ∧ x < 99) ∨ (x = 1 ∧ (y = 0 ∨ y = 1 ∨ y = 2 ∨ y = 3 ∨ y = 4 ∨ y = 5 ∨ y = 6 ∨ y = 7)) ∨ (99 ≤ x ∧ x < 112)) h') := by
  subst ea
  refine mj_Ct_of mj_ok tb_5 rfl rfl (Nat.le_of_ble_eq_true rfl) (fun Run hR => ?_)
  have r70 : ∀ (h' : mj_H), Cb zx 112 (fun x y => (1 < x ∧ x < 99) ∨ (x = 1 ∧ (y = 0 ∨ y = 1 ∨ y = 2 ∨ y = 3 ∨ y = 4 ∨ y = 5 ∨ y = 6 ∨ y = 7)) ∨ (99 < x ∧ x < 112) ∨ (x = 99 ∧ (y = 0 ∨ y = 1 ∨ y = 2 ∨ y = 3 ∨ y = 4 ∨ y = 5))) h' → Run 70 [some (.ref 99)] [] h' (0, 0) := by
    intro h'  c
    refine hR 60 32 _ _ _ _ _ _ rfl ?_
    refine ⟨rfl, c.mono (fun x y q e z => ?_)⟩
    exact (Or.imp id (Or.imp id (fin_s (fun hx => by subst hx; exact lyr_99 e)))) z
  have r59 : ∀ (h' : mj_H), Cb zx 110 (fun x y => (1 < x ∧ x < 99) ∨ (x = 1 ∧ (y = 0 ∨ y = 1 ∨ y = 2 ∨ y = 3 ∨ y = 4 ∨ y = 5 ∨ y = 6 ∨ y = 7)) ∨ (99 < x ∧ x < 110) ∨ (x = 99 ∧ (y = 0 ∨ y = 1 ∨ y = 2 ∨ y = 3 ∨ y = 4))) h' → Run 59 [some (.ref 99)] [] h' (2, 1027) := by
    intro h'  c
    refine hR 60 27 _ _ _ _ _ _ rfl ?_
    refine ⟨⟨Nat.le_of_ble_eq_true rfl, Nat.le_of_ble_eq_true rfl⟩, jcallB (ct_6 G c.1 (a := 110) ⟨rfl, rfl, rfl, rfl⟩ (fun x y p => (or_e (fun z => Nat.lt_of_lt_of_le z.2 (by decide)) (or_e (fun z => eq_lt z.1 (by decide)) (or_e (fun z => Nat.lt_of_lt_of_le z.2 (by decide)) (fun z => eq_lt z.1 (by decide))))) p) (c.new (kd := 15) (n := 0) (fun x y p => (or_e (fun z => Nat.lt_of_lt_of_le z.2 (by decide)) (or_e (fun z => eq_lt z.1 (by decide)) (or_e (fun z => Nat.lt_of_lt_of_le z.2 (by decide)) (fun z => eq_lt z.1 (by decide))))) p) rfl rfl)) rfl rfl ?_⟩
    intro h2 c2
    exact ⟨c2.K 99 rfl, r70 _ ((c2.ref c.1 rfl).mono (fun x y q _ z => (pre_st (pre_st (mono_s3 (or_st (or_st (or_st (or_st id))))))) z))⟩
  have r48 : ∀ (h' : mj_H), Cb zx 108 (fun x y => (1 < x ∧ x < 99) ∨ (x = 1 ∧ (y = 0 ∨ y = 1 ∨ y = 2 ∨ y = 3 ∨ y = 4 ∨ y = 5 ∨ y = 6 ∨ y = 7)) ∨ (99 < x ∧ x < 108) ∨ (x = 99 ∧ (y = 0 ∨ y = 1 ∨ y = 2 ∨ y = 3))) h' → Run 48 [some (.ref 99)] [] h' (4, 2054) := by
    intro h'  c
    refine hR 60 22 _ _ _ _ _ _ rfl ?_
    refine ⟨⟨Nat.le_of_ble_eq_true rfl, Nat.le_of_ble_eq_true rfl⟩, jcallB (ct_6 G c.1 (a := 108) ⟨rfl, rfl, rfl, rfl⟩ (fun x y p => (or_e (fun z => Nat.lt_of_lt_of_le z.2 (by decide)) (or_e (fun z => eq_lt z.1 (by decide)) (or_e (fun z => Nat.lt_of_lt_of_le z.2 (by decide)) (fun z => eq_lt z.1 (by decide))))) p) (c.new (kd := 15) (n := 0) (fun x y p => (or_e (fun z => Nat.lt_of_lt_of_le z.2 (by decide)) (or_e (fun z => eq_lt z.1 (by decide)) (or_e (fun z => Nat.lt_of_lt_of_le z.2 (by decide)) (fun z => eq_lt z.1 (by decide))))) p) rfl rfl)) rfl rfl ?_⟩
    intro h2 c2
    exact ⟨c2.K 99 rfl, r59 _ ((c2.ref c.1 rfl).mono (fun x y q _ z => (pre_st (pre_st (mono_s3 (or_st (or_st (or_st id)))))) z))⟩
  have r37 : ∀ (h' : mj_H), Cb zx 106 (fun x y => (1 < x ∧ x < 99) ∨ (x = 1 ∧ (y = 0 ∨ y = 1 ∨ y = 2 ∨ y = 3 ∨ y = 4 ∨ y = 5 ∨ y = 6 ∨ y = 7)) ∨ (99 < x ∧ x < 106) ∨ (x = 99 ∧ (y = 0 ∨ y = 1 ∨ y = 2))) h' → Run 37 [some (.ref 99)] [] h' (6, 3081) := by
    intro h'  c
    refine hR 60 17 _ _ _ _ _ _ rfl ?_
    refine ⟨⟨Nat.le_of_ble_eq_true rfl, Nat.le_of_ble_eq_true rfl⟩, jcallB (ct_6 G c.1 (a := 106) ⟨rfl, rfl, rfl, rfl⟩ (fun x y p => (or_e (fun z => Nat.lt_of_lt_of_le z.2 (by decide)) (or_e (fun z => eq_lt z.1 (by decide)) (or_e (fun z => Nat.lt_of_lt_of_le z.2 (by decide)) (fun z => eq_lt z.1 (by decide))))) p) (c.new (kd := 15) (n := 0) (fun x y p => (or_e (fun z => Nat.lt_of_lt_of_le z.2 (by decide)) (or_e (fun z => eq_lt z.1 (by decide)) (or_e (fun z => Nat.lt_of_lt_of_le z.2 (by decide)) (fun z => eq_lt z.1 (by decide))))) p) rfl rfl)) rfl rfl ?_⟩
    intro h2 c2
    exact ⟨c2.K 99 rfl, r48 _ ((c2.ref c.1 rfl).mono (fun x y q _ z => (pre_st (pre_st (mono_s3 (or_st (or_st id))))) z))⟩
  have r26 : ∀ (h' : mj_H), Cb zx 104 (fun x y => (1 < x ∧ x < 99) ∨ (x = 1 ∧ (y = 0 ∨ y = 1 ∨ y = 2 ∨ y = 3 ∨ y = 4 ∨ y = 5 ∨ y = 6 ∨ y = 7)) ∨ (99 < x ∧ x < 104) ∨ (x = 99 ∧ (y = 0 ∨ y = 1))) h' → Run 26 [some (.ref 99)] [] h' (8, 4108) := by
    intro h'  c
    refine hR 60 12 _ _ _ _ _ _ rfl ?_
    refine ⟨⟨Nat.le_of_ble_eq_true rfl, Nat.le_of_ble_eq_true rfl⟩, jcallB (ct_6 G c.1 (a := 104) ⟨rfl, rfl, rfl, rfl⟩ (fun x y p => (or_e (fun z => Nat.lt_of_lt_of_le z.2 (by decide)) (or_e (fun z => eq_lt z.1 (by decide)) (or_e (fun z => Nat.lt_of_lt_of_le z.2 (by decide)) (fun z => eq_lt z.1 (by decide))))) p) (c.new (kd := 15) (n := 0) (fun x y p => (or_e (fun z => Nat.lt_of_lt_of_le z.2 (by decide)) (or_e (fun z => eq_lt z.1 (by decide)) (or_e (fun z => Nat.lt_of_lt_of_le z.2 (by decide)) (fun z => eq_lt z.1 (by decide))))) p) rfl rfl)) rfl rfl ?_⟩
    intro h2 c2
    exact ⟨c2.K 99 rfl, r37 _ ((c2.ref c.1 rfl).mono (fun x y q _ z => (pre_st (pre_st (mono_s3 (or_st id)))) z))⟩
  have r15 : ∀ (h' : mj_H), Cb zx 102 (fun x y => (1 < x ∧ x < 99) ∨ (x = 1 ∧ (y = 0 ∨ y = 1 ∨ y = 2 ∨ y = 3 ∨ y = 4 ∨ y = 5 ∨ y = 6 ∨ y = 7)) ∨ (99 < x ∧ x < 102) ∨ (x = 99 ∧ (y = 0))) h' → Run 15 [some (.ref 99)] [] h' (10, 5135) := by
    intro h'  c
    refine hR 60 7 _ _ _ _ _ _ rfl ?_
    refine ⟨⟨Nat.le_of_ble_eq_true rfl, Nat.le_of_ble_eq_true rfl⟩, jcallB (ct_6 G c.1 (a := 102) ⟨rfl, rfl, rfl, rfl⟩ (fun x y p => (or_e (fun z => Nat.lt_of_lt_of_le z.2 (by decide)) (or_e (fun z => eq_lt z.1 (by decide)) (or_e (fun z => Nat.lt_of_lt_of_le z.2 (by decide)) (fun z => eq_lt z.1 (by decide))))) p) (c.new (kd := 15) (n := 0) (fun x y p => (or_e (fun z => Nat.lt_of_lt_of_le z.2 (by decide)) (or_e (fun z => eq_lt z.1 (by decide)) (or_e (fun z => Nat.lt_of_lt_of_le z.2 (by decide)) (fun z => eq_lt z.1 (by decide))))) p) rfl rfl)) rfl rfl ?_⟩
    intro h2 c2
    exact ⟨c2.K 99 rfl, r26 _ ((c2.ref c.1 rfl).mono (fun x y q _ z => (pre_st (pre_st (mono_s3 id))) z))⟩
  have r4 : ∀ (h' : mj_H), Cb zx 100 (fun x y => (1 < x ∧ x < 99) ∨ (x = 1 ∧ (y = 0 ∨ y = 1 ∨ y = 2 ∨ y = 3 ∨ y = 4 ∨ y = 5 ∨ y = 6 ∨ y = 7)) ∨ (99 < x ∧ x < 100)) h' → Run 4 [some (.ref 99)] [] h' (12, 6162) := by
    intro h'  c
    refine hR 60 2 _ _ _ _ _ _ rfl ?_
    refine ⟨⟨Nat.le_of_ble_eq_true rfl, Nat.le_of_ble_eq_true rfl⟩, jcallB (ct_6 G c.1 (a := 100) ⟨rfl, rfl, rfl, rfl⟩ (fun x y p => (or_e (fun z => Nat.lt_of_lt_of_le z.2 (by decide)) (or_e (fun z => eq_lt z.1 (by decide)) (fun z => Nat.lt_of_lt_of_le z.2 (by decide)))) p) (c.new (kd := 15) (n := 0) (fun x y p => (or_e (fun z => Nat.lt_of_lt_of_le z.2 (by decide)) (or_e (fun z => eq_lt z.1 (by decide)) (fun z => Nat.lt_of_lt_of_le z.2 (by decide)))) p) rfl rfl)) rfl rfl ?_⟩
    intro h2 c2
    exact ⟨c2.K 99 rfl, r15 _ ((c2.ref c.1 rfl).mono (fun x y q _ z => by omega))⟩
  refine hR 60 0 _ _ _ _ _ _ rfl ?_
  exact r4 h (c.mono (fun x y q _ z => by omega))
theorem lyr_114 : ∀ {y q : Nat}, lyR2 114 y = some q → y = 0 ∨ y = 1 ∨ y = 2 ∨ y = 3 ∨ y = 4 ∨ y = 5 := by
  intro y q e
  have e' : (match Nat.blt y 6 with | true => some (114 + 1 + 2 * y) | false => none) = some q := e
  cases g : Nat.blt y 6 with
  | true =>
    have := Nat.le_of_ble_eq_true g
    omega
  | false =>
    rw [g] at e'
    cases e'
theorem ct_5_114 (G : mj_G) {zx : (Nat → Int32) × Nat} {h : mj_H} {a' : Nat} (ea : a' = 114) (c : Cb zx 115 (fun x y => (1 < x ∧ x < 114) ∨ (x = 1 ∧ (y = 0 ∨ y = 1 ∨ y = 2 ∨ y = 3 ∨ y = 4 ∨ y = 5 ∨ y = 6 ∨ y = 7 ∨ y = 11 ∨ y = 12 ∨ y = 13))) h) : mj_Ct G (mj_mt 5) 12 6162 [Value.ref a'] h (fun o h' => o = .returned none ∧ Cb zx 127 (fun x y => (1 < x ∧ x < 114) ∨ (x = 1 ∧ (y = 0 ∨ y = 1 ∨ y = 2 ∨ y = 3 ∨ y = 4 ∨ y = 5 ∨ y = 6 ∨ y = 7 ∨ y = 11 ∨ y = 12 ∨ y = 13)) ∨ (114 ≤ x ∧ x < 127)) h') := by
  subst ea
  refine mj_Ct_of mj_ok tb_5 rfl rfl (Nat.le_of_ble_eq_true rfl) (fun Run hR => ?_)
  have r70 : ∀ (h' : mj_H), Cb zx 127 (fun x y => (1 < x ∧ x < 114) ∨ (x = 1 ∧ (y = 0 ∨ y = 1 ∨ y = 2 ∨ y = 3 ∨ y = 4 ∨ y = 5 ∨ y = 6 ∨ y = 7 ∨ y = 11 ∨ y = 12 ∨ y = 13)) ∨ (114 < x ∧ x < 127) ∨ (x = 114 ∧ (y = 0 ∨ y = 1 ∨ y = 2 ∨ y = 3 ∨ y = 4 ∨ y = 5))) h' → Run 70 [some (.ref 114)] [] h' (0, 0) := by
    intro h'  c
    refine hR 60 32 _ _ _ _ _ _ rfl ?_
    refine ⟨rfl, c.mono (fun x y q e z => ?_)⟩
    exact (Or.imp id (Or.imp id (fin_s (fun hx => by subst hx; exact lyr_114 e)))) z
  have r59 : ∀ (h' : mj_H), Cb zx 125 (fun x y => (1 < x ∧ x < 114) ∨ (x = 1 ∧ (y = 0 ∨ y = 1 ∨ y = 2 ∨ y = 3 ∨ y = 4 ∨ y = 5 ∨ y = 6 ∨ y = 7 ∨ y = 11 ∨ y = 12 ∨ y = 13)) ∨ (114 < x ∧ x < 125) ∨ (x = 114 ∧ (y = 0 ∨ y = 1 ∨ y = 2 ∨ y = 3 ∨ y = 4))) h' → Run 59 [some (.ref 114)] [] h' (2, 1027) := by
    intro h'  c
    refine hR 60 27 _ _ _ _ _ _ rfl ?_
    refine ⟨⟨Nat.le_of_ble_eq_true rfl, Nat.le_of_ble_eq_true rfl⟩, jcallB (ct_6 G c.1 (a := 125) ⟨rfl, rfl, rfl, rfl⟩ (fun x y p => (or_e (fun z => Nat.lt_of_lt_of_le z.2 (by decide)) (or_e (fun z => eq_lt z.1 (by decide)) (or_e (fun z => Nat.lt_of_lt_of_le z.2 (by decide)) (fun z => eq_lt z.1 (by decide))))) p) (c.new (kd := 15) (n := 0) (fun x y p => (or_e (fun z => Nat.lt_of_lt_of_le z.2 (by decide)) (or_e (fun z => eq_lt z.1 (by decide)) (or_e (fun z => Nat.lt_of_lt_of_le z.2 (by decide)) (fun z => eq_lt z.1 (by decide))))) p) rfl rfl)) rfl rfl ?_⟩
    intro h2 c2
    exact ⟨c2.K 114 rfl, r70 _ ((c2.ref c.1 rfl).mono (fun x y q _ z => (pre_st (pre_st (mono_s3 (or_st (or_st (or_st (or_st id))))))) z))⟩
  have r48 : ∀ (h' : mj_H), Cb zx 123 (fun x y => (1 < x ∧ x < 114) ∨ (x = 1 ∧ (y = 0 ∨ y = 1 ∨ y = 2 ∨ y = 3 ∨ y = 4 ∨ y = 5 ∨ y = 6 ∨ y = 7 ∨ y = 11 ∨ y = 12 ∨ y = 13)) ∨ (114 < x ∧ x < 123) ∨ (x = 114 ∧ (y = 0 ∨ y = 1 ∨ y = 2 ∨ y = 3))) h' → Run 48 [some (.ref 114)] [] h' (4, 2054) := by
    intro h'  c
    refine hR 60 22 _ _ _ _ _ _ rfl ?_
    refine ⟨⟨Nat.le_of_ble_eq_true rfl, Nat.le_of_ble_eq_true rfl⟩, jcallB (ct_6 G c.1 (a := 123) ⟨rfl, rfl, rfl, rfl⟩ (fun x y p => (or_e (fun z => Nat.lt_of_lt_of_le z.2 (by decide)) (or_e (fun z => eq_lt z.1 (by decide)) (or_e (fun z => Nat.lt_of_lt_of_le z.2 (by decide)) (fun z => eq_lt z.1 (by decide))))) p) (c.new (kd := 15) (n := 0) (fun x y p => (or_e (fun z => Nat.lt_of_lt_of_le z.2 (by decide)) (or_e (fun z => eq_lt z.1 (by decide)) (or_e (fun z => Nat.lt_of_lt_of_le z.2 (by decide)) (fun z => eq_lt z.1 (by decide))))) p) rfl rfl)) rfl rfl ?_⟩
    intro h2 c2
    exact ⟨c2.K 114 rfl, r59 _ ((c2.ref c.1 rfl).mono (fun x y q _ z => (pre_st (pre_st (mono_s3 (or_st (or_st (or_st id)))))) z))⟩
  have r37 : ∀ (h' : mj_H), Cb zx 121 (fun x y => (1 < x ∧ x < 114) ∨ (x = 1 ∧ (y = 0 ∨ y = 1 ∨ y = 2 ∨ y = 3 ∨ y = 4 ∨ y = 5 ∨ y = 6 ∨ y = 7 ∨ y = 11 ∨ y = 12 ∨ y = 13)) ∨ (114 < x ∧ x < 121) ∨ (x = 114 ∧ (y = 0 ∨ y = 1 ∨ y = 2))) h' → Run 37 [some (.ref 114)] [] h' (6, 3081) := by
    intro h'  c
    refine hR 60 17 _ _ _ _ _ _ rfl ?_
    refine ⟨⟨Nat.le_of_ble_eq_true rfl, Nat.le_of_ble_eq_true rfl⟩, jcallB (ct_6 G c.1 (a := 121) ⟨rfl, rfl, rfl, rfl⟩ (fun x y p => (or_e (fun z => Nat.lt_of_lt_of_le z.2 (by decide)) (or_e (fun z => eq_lt z.1 (by decide)) (or_e (fun z => Nat.lt_of_lt_of_le z.2 (by decide)) (fun z => eq_lt z.1 (by decide))))) p) (c.new (kd := 15) (n := 0) (fun x y p => (or_e (fun z => Nat.lt_of_lt_of_le z.2 (by decide)) (or_e (fun z => eq_lt z.1 (by decide)) (or_e (fun z => Nat.lt_of_lt_of_le z.2 (by decide)) (fun z => eq_lt z.1 (by decide))))) p) rfl rfl)) rfl rfl ?_⟩
    intro h2 c2
    exact ⟨c2.K 114 rfl, r48 _ ((c2.ref c.1 rfl).mono (fun x y q _ z => (pre_st (pre_st (mono_s3 (or_st (or_st id))))) z))⟩
  have r26 : ∀ (h' : mj_H), Cb zx 119 (fun x y => (1 < x ∧ x < 114) ∨ (x = 1 ∧ (y = 0 ∨ y = 1 ∨ y = 2 ∨ y = 3 ∨ y = 4 ∨ y = 5 ∨ y = 6 ∨ y = 7 ∨ y = 11 ∨ y = 12 ∨ y = 13)) ∨ (114 < x ∧ x < 119) ∨ (x = 114 ∧ (y = 0 ∨ y = 1))) h' → Run 26 [some (.ref 114)] [] h' (8, 4108) := by
    intro h'  c
    refine hR 60 12 _ _ _ _ _ _ rfl ?_
    refine ⟨⟨Nat.le_of_ble_eq_true rfl, Nat.le_of_ble_eq_true rfl⟩, jcallB (ct_6 G c.1 (a := 119) ⟨rfl, rfl, rfl, rfl⟩ (fun x y p => (or_e (fun z => Nat.lt_of_lt_of_le z.2 (by decide)) (or_e (fun z => eq_lt z.1 (by decide)) (or_e (fun z => Nat.lt_of_lt_of_le z.2 (by decide)) (fun z => eq_lt z.1 (by decide))))) p) (c.new (kd := 15) (n := 0) (fun x y p => (or_e (fun z => Nat.lt_of_lt_of_le z.2 (by decide)) (or_e (fun z => eq_lt z.1 (by decide)) (or_e (fun z => Nat.lt_of_lt_of_le z.2 (by decide)) (fun z => eq_lt z.1 (by decide))))) p) rfl rfl)) rfl rfl ?_⟩
    intro h2 c2
    exact ⟨c2.K 114 rfl, r37 _ ((c2.ref c.1 rfl).mono (fun x y q _ z => (pre_st (pre_st (mono_s3 (or_st id)))) z))⟩
  have r15 : ∀ (h' : mj_H), Cb zx 117 (fun x y => (1 < x ∧ x < 114) ∨ (x = 1 ∧ (y = 0 ∨ y = 1 ∨ y = 2 ∨ y = 3 ∨ y = 4 ∨ y = 5 ∨ y = 6 ∨ y = 7 ∨ y = 11 ∨ y = 12 ∨ y = 13)) ∨ (114 < x ∧ x < 117) ∨ (x = 114 ∧ (y = 0))) h' → Run 15 [some (.ref 114)] [] h' (10, 5135) := by
    intro h'  c
    refine hR 60 7 _ _ _ _ _ _ rfl ?_
    refine ⟨⟨Nat.le_of_ble_eq_true rfl, Nat.le_of_ble_eq_true rfl⟩, jcallB (ct_6 G c.1 (a := 117) ⟨rfl, rfl, rfl, rfl⟩ (fun x y p => (or_e (fun z => Nat.lt_of_lt_of_le z.2 (by decide)) (or_e (fun z => eq_lt z.1 (by decide)) (or_e (fun z => Nat.lt_of_lt_of_le z.2 (by decide)) (fun z => eq_lt z.1 (by decide))))) p) (c.new (kd := 15) (n := 0) (fun x y p => (or_e (fun z => Nat.lt_of_lt_of_le z.2 (by decide)) (or_e (fun z => eq_lt z.1 (by decide)) (or_e (fun z => Nat.lt_of_lt_of_le z.2 (by decide)) (fun z => eq_lt z.1 (by decide))))) p) rfl rfl)) rfl rfl ?_⟩
    intro h2 c2
    exact ⟨c2.K 114 rfl, r26 _ ((c2.ref c.1 rfl).mono (fun x y q _ z => (pre_st (pre_st (mono_s3 id))) z))⟩
  have r4 : ∀ (h' : mj_H), Cb zx 115 (fun x y => (1 < x ∧ x < 114) ∨ (x = 1 ∧ (y = 0 ∨ y = 1 ∨ y = 2 ∨ y = 3 ∨ y = 4 ∨ y = 5 ∨ y = 6 ∨ y = 7 ∨ y = 11 ∨ y = 12 ∨ y = 13)) ∨ (114 < x ∧ x < 115)) h' → Run 4 [some (.ref 114)] [] h' (12, 6162) := by
    intro h'  c
    refine hR 60 2 _ _ _ _ _ _ rfl ?_
    refine ⟨⟨Nat.le_of_ble_eq_true rfl, Nat.le_of_ble_eq_true rfl⟩, jcallB (ct_6 G c.1 (a := 115) ⟨rfl, rfl, rfl, rfl⟩ (fun x y p => (or_e (fun z => Nat.lt_of_lt_of_le z.2 (by decide)) (or_e (fun z => eq_lt z.1 (by decide)) (fun z => Nat.lt_of_lt_of_le z.2 (by decide)))) p) (c.new (kd := 15) (n := 0) (fun x y p => (or_e (fun z => Nat.lt_of_lt_of_le z.2 (by decide)) (or_e (fun z => eq_lt z.1 (by decide)) (fun z => Nat.lt_of_lt_of_le z.2 (by decide)))) p) rfl rfl)) rfl rfl ?_⟩
    intro h2 c2
    exact ⟨c2.K 114 rfl, r15 _ ((c2.ref c.1 rfl).mono (fun x y q _ z => by omega))⟩
  refine hR 60 0 _ _ _ _ _ _ rfl ?_
  exact r4 h (c.mono (fun x y q _ z => by omega))
/-- FormHouse.<init>()V; cuts at [4, 15, 33, 62, 73, 84, 95, 106, 117, 128, 139, 150, 161, 171, 180, 189, 198, 207, 209, 216, 235] -/
def cl_0_4 : List mj_E := (210, false, .sipush 256, 3, 0, 0, 0, jI 256, 0) ::
  (213, false, .if_icmp .ge 22, 3, 107, 0, 0, 0, 0) ::
  (216, true, .aload_n 0, 1, 0, 0, 0, 0, 0) ::
  (217, false, .getfield 102, 3, 0, 15, 2, 0, 0) ::
  (220, false, .iload_n 1, 1, 0, 0, 0, 0, 0) ::
  (221, false, .new 100, 3, 26, 2, 0, 0, 0) ::
  (224, false, .dup, 1, 0, 0, 0, 0, 0) ::
  (225, false, .invokespecial 121, 3, 17, 0, 0, 0, 0) ::
  (228, false, .aastore, 1, 0, 0, 0, 0, 0) ::
  (229, false, .iinc 1 1, 3, 0, 0, 0, jI 1, 0) ::
  (232, false, .goto (-23), 3, 95, 0, 0, 0, 0) ::
  (235, true, .aload_n 0, 1, 0, 0, 0, 0, 0) ::
  (236, false, .ldc2_w 122, 3, 0, 0, 0, 0, jL (-4)) ::
  (239, false, .invokevirtual 124, 3, 18, 1, 0, 0, 0) ::
  (242, false, .return_, 1, 0, 0, 0, 0, 0) ::
  []
def cl_0_3 : List mj_E := (158, false, .putfield 97, 3, 0, 14, 2, 0, 0) ::
  (161, true, .aload_n 0, 1, 0, 0, 0, 0, 0) ::
  (162, false, .sipush 256, 3, 0, 0, 0, jI 256, 0) ::
  (165, false, .anewarray 100, 3, 6, 0, 0, 0, 0) ::
  (168, false, .putfield 102, 3, 0, 15, 2, 0, 0) ::
  (171, true, .aload_n 0, 1, 0, 0, 0, 0, 0) ::
  (172, false, .sipush 256, 3, 0, 0, 0, jI 256, 0) ::
  (175, false, .newarray .int, 2, 1, 0, 0, 0, 0) ::
  (177, false, .putfield 106, 3, 0, 16, 2, 0, 0) ::
  (180, true, .aload_n 0, 1, 0, 0, 0, 0, 0) ::
  (181, false, .sipush 256, 3, 0, 0, 0, jI 256, 0) ::
  (184, false, .newarray .int, 2, 1, 0, 0, 0, 0) ::
  (186, false, .putfield 110, 3, 0, 17, 2, 0, 0) ::
  (189, true, .aload_n 0, 1, 0, 0, 0, 0, 0) ::
  (190, false, .sipush 4096, 3, 0, 0, 0, jI 4096, 0) ::
  (193, false, .newarray .boolean, 2, 4, 0, 0, 0, 0) ::
  (195, false, .putfield 113, 3, 0, 20, 2, 0, 0) ::
  (198, true, .aload_n 0, 1, 0, 0, 0, 0, 0) ::
  (199, false, .sipush 4096, 3, 0, 0, 0, jI 4096, 0) ::
  (202, false, .newarray .short, 2, 3, 0, 0, 0, 0) ::
  (204, false, .putfield 117, 3, 0, 21, 2, 0, 0) ::
  (207, true, .iconst 0, 1, 0, 0, 0, jI 0, 0) ::
  (208, false, .istore_n 1, 1, 0, 0, 0, 0, 0) ::
  (209, true, .iload_n 1, 1, 0, 0, 0, 0, 0) ::
  cl_0_4
def cl_0_2 : List mj_E := (106, true, .aload_n 0, 1, 0, 0, 0, 0, 0) ::
  (107, false, .new 74, 3, 16, 3, 0, 0, 0) ::
  (110, false, .dup, 1, 0, 0, 0, 0, 0) ::
  (111, false, .invokespecial 76, 3, 7, 0, 0, 0, 0) ::
  (114, false, .putfield 81, 3, 0, 7, 2, 0, 0) ::
  (117, true, .aload_n 0, 1, 0, 0, 0, 0, 0) ::
  (118, false, .new 84, 3, 14, 6, 0, 0, 0) ::
  (121, false, .dup, 1, 0, 0, 0, 0, 0) ::
  (122, false, .invokespecial 86, 3, 5, 0, 0, 0, 0) ::
  (125, false, .putfield 87, 3, 0, 11, 2, 0, 0) ::
  (128, true, .aload_n 0, 1, 0, 0, 0, 0, 0) ::
  (129, false, .new 74, 3, 16, 3, 0, 0, 0) ::
  (132, false, .dup, 1, 0, 0, 0, 0, 0) ::
  (133, false, .invokespecial 76, 3, 7, 0, 0, 0, 0) ::
  (136, false, .putfield 91, 3, 0, 12, 2, 0, 0) ::
  (139, true, .aload_n 0, 1, 0, 0, 0, 0, 0) ::
  (140, false, .new 74, 3, 16, 3, 0, 0, 0) ::
  (143, false, .dup, 1, 0, 0, 0, 0, 0) ::
  (144, false, .invokespecial 76, 3, 7, 0, 0, 0, 0) ::
  (147, false, .putfield 94, 3, 0, 13, 2, 0, 0) ::
  (150, true, .aload_n 0, 1, 0, 0, 0, 0, 0) ::
  (151, false, .new 84, 3, 14, 6, 0, 0, 0) ::
  (154, false, .dup, 1, 0, 0, 0, 0, 0) ::
  (155, false, .invokespecial 86, 3, 5, 0, 0, 0, 0) ::
  cl_0_3
def cl_0_1 : List mj_E := (50, false, .getfield 30, 3, 1, 1, 2, 0, 0) ::
  (53, false, .invokespecial 45, 3, 9, 1, 0, 0, 0) ::
  (56, false, .invokespecial 46, 3, 11, 2, 0, 0, 0) ::
  (59, false, .putfield 49, 3, 0, 2, 2, 0, 0) ::
  (62, true, .aload_n 0, 1, 0, 0, 0, 0, 0) ::
  (63, false, .new 53, 3, 21, 2, 0, 0, 0) ::
  (66, false, .dup, 1, 0, 0, 0, 0, 0) ::
  (67, false, .invokespecial 55, 3, 12, 0, 0, 0, 0) ::
  (70, false, .putfield 56, 3, 0, 3, 2, 0, 0) ::
  (73, true, .aload_n 0, 1, 0, 0, 0, 0, 0) ::
  (74, false, .new 60, 3, 22, 12, 0, 0, 0) ::
  (77, false, .dup, 1, 0, 0, 0, 0, 0) ::
  (78, false, .invokespecial 62, 3, 13, 0, 0, 0, 0) ::
  (81, false, .putfield 63, 3, 0, 4, 2, 0, 0) ::
  (84, true, .aload_n 0, 1, 0, 0, 0, 0, 0) ::
  (85, false, .new 67, 3, 25, 4, 0, 0, 0) ::
  (88, false, .dup, 1, 0, 0, 0, 0, 0) ::
  (89, false, .invokespecial 69, 3, 16, 0, 0, 0, 0) ::
  (92, false, .putfield 70, 3, 0, 5, 2, 0, 0) ::
  (95, true, .aload_n 0, 1, 0, 0, 0, 0, 0) ::
  (96, false, .new 74, 3, 16, 3, 0, 0, 0) ::
  (99, false, .dup, 1, 0, 0, 0, 0, 0) ::
  (100, false, .invokespecial 76, 3, 7, 0, 0, 0, 0) ::
  (103, false, .putfield 77, 3, 0, 6, 2, 0, 0) ::
  cl_0_2
def cl_0_0 : List mj_E := (0, false, .aload_n 0, 1, 0, 0, 0, 0, 0) ::
  (1, false, .invokespecial 15, 3, 0, 0, 1, 0, 0) ::
  (4, true, .aload_n 0, 1, 0, 0, 0, 0, 0) ::
  (5, false, .new 21, 3, 11, 10, 0, 0, 0) ::
  (8, false, .dup, 1, 0, 0, 0, 0, 0) ::
  (9, false, .invokespecial 23, 3, 2, 0, 0, 0, 0) ::
  (12, false, .putfield 24, 3, 0, 0, 2, 0, 0) ::
  (15, true, .aload_n 0, 1, 0, 0, 0, 0, 0) ::
  (16, false, .new 28, 3, 17, 8, 0, 0, 0) ::
  (19, false, .dup, 1, 0, 0, 0, 0, 0) ::
  (20, false, .aload_n 0, 1, 0, 0, 0, 0, 0) ::
  (21, false, .getfield 24, 3, 0, 0, 2, 0, 0) ::
  (24, false, .getfield 30, 3, 1, 1, 2, 0, 0) ::
  (27, false, .invokespecial 34, 3, 8, 1, 0, 0, 0) ::
  (30, false, .putfield 37, 3, 0, 1, 2, 0, 0) ::
  (33, true, .aload_n 0, 1, 0, 0, 0, 0, 0) ::
  (34, false, .new 41, 3, 18, 14, 0, 0, 0) ::
  (37, false, .dup, 1, 0, 0, 0, 0, 0) ::
  (38, false, .aload_n 0, 1, 0, 0, 0, 0, 0) ::
  (39, false, .getfield 37, 3, 0, 1, 2, 0, 0) ::
  (42, false, .new 43, 3, 19, 5, 0, 0, 0) ::
  (45, false, .dup, 1, 0, 0, 0, 0, 0) ::
  (46, false, .aload_n 0, 1, 0, 0, 0, 0, 0) ::
  (47, false, .getfield 24, 3, 0, 0, 2, 0, 0) ::
  cl_0_1
def cd_0 : List mj_E := cl_0_0
def cx_0 : mj_X := (0, [], [])
theorem tb_0 : mj_tab (mj_mt 0) cx_0 cd_0 mj_mh [(0, 0, 0), (1035, 1036, 1037), (0, 0, 0), (1038, 1039, 1002), (0, 0, 0), (1040, 0, 0), (4203, 0, 0), (0, 0, 0), (1223, 1224, 1008), (0, 0, 0), (0, 0, 0), (4203, 0, 0), (1192, 0, 0), (1225, 0, 0), (4204, 0, 0), (0, 0, 0), (2022, 2023, 1009), (0, 0, 0), (0, 0, 0), (4204, 0, 0), (2024, 2025, 1010), (0, 0, 0), (0, 0, 0), (4203, 0, 0), (1192, 0, 0), (2026, 0, 0), (2067, 0, 0), (4205, 0, 0), (0, 0, 0), (2123, 2124, 1012), (0, 0, 0), (2125, 0, 0), (4206, 0, 0), (0, 0, 0), (2138, 2139, 1013), (0, 0, 0), (2140, 0, 0), (4207, 0, 0), (0, 0, 0), (2238, 2239, 1016), (0, 0, 0), (3000, 0, 0), (4208, 0, 0), (0, 0, 0), (3038, 1151, 1007), (0, 0, 0), (3039, 0, 0), (4209, 0, 0), (0, 0, 0), (3038, 1151, 1007), (0, 0, 0), (3039, 0, 0), (4210, 0, 0), (0, 0, 0), (3040, 1086, 1005), (0, 0, 0), (3041, 0, 0), (4214, 0, 0), (0, 0, 0), (3038, 1151, 1007), (0, 0, 0), (3039, 0, 0), (4215, 0, 0), (0, 0, 0), (3038, 1151, 1007), (0, 0, 0), (3039, 0, 0), (4216, 0, 0), (0, 0, 0), (3040, 1086, 1005), (0, 0, 0), (3041, 0, 0), (4217, 0, 0), (0, 0, 0), (0, 0, 0), (3042, 3043, 0), (4218, 0, 0), (0, 0, 0), (0, 0, 0), (1063, 0, 0), (4219, 0, 0), (0, 0, 0), (0, 0, 0), (1063, 0, 0), (4220, 0, 0), (0, 0, 0), (0, 0, 0), (2122, 0, 0), (4223, 0, 0), (0, 0, 0), (0, 0, 0), (2021, 0, 0), (4224, 0, 0), (0, 0, 0), (0, 0, 0), (0, 0, 0), (0, 0, 0), (0, 0, 0), (0, 0, 0), (4218, 0, 0), (0, 0, 0), (3042, 3007, 1017), (0, 0, 0), (3044, 0, 0), (0, 0, 0), (0, 0, 0), (0, 0, 0), (0, 0, 0), (3045, 0, 0), (3046, 0, 0), (0, 0, 0)] = true := mj_tab_f (by decide +kernel)
theorem ct_0_1 (G : mj_G) {zx : (Nat → Int32) × Nat} {h : mj_H} {a' : Nat} (ea : a' = 1) (c : Cb zx 2 (fun x y => False) h) {Po : mj_H → Prop} (hb : ∀ h', Cb zx 1412 (fun x _ => 1 ≤ x ∧ x < 1412) h' → mj_Ct G (mj_mt 18) 0 0 [.ref 1, .long (jL (-4))] h' (fun o h'' => o = .returned none ∧ Po h'')) : mj_Ct G (mj_mt 0) 1410 820246 [Value.ref a'] h (fun o h' => o = .returned none ∧ Po h') := by
  subst ea
  refine mj_Ct_of mj_ok tb_0 rfl rfl (Nat.le_of_ble_eq_true rfl) (fun Run hR => ?_)
  have pw : ∀ i, i < 256 → prP (132 + 5 * i) := by
    intro i hi
    have e0 := lyP_at i 0 (by omega)
    have e1 := lyP_at i 1 (by omega)
    have e2 := lyP_at i 2 (by omega)
    have e3 := lyP_at i 3 (by omega)
    have e4 := lyP_at i 4 (by omega)
    have sp : ∀ j, j < 5 → spc (132 + 5 * i + j) = false := by
      intro j hj
      have f : ∀ n, n < 132 → Nat.beq (132 + 5 * i + j) n = false := fun n hn => Bool.eq_false_iff.2 (fun z => by have := Nat.eq_of_beq_eq_true z; omega)
      unfold spc
      rw [f 8 (by decide), f 99 (by decide), f 114 (by decide), f 73 (by decide), f 127 (by decide)]
      rfl
    rw [← lyAt_p (by omega) (by omega)] at e0 e1 e2 e3 e4
    exact ⟨e0, ⟨e1, e2, sp 1 (by omega), sp 2 (by omega)⟩, ⟨e3, e4, sp 3 (by omega), sp 4 (by omega)⟩, sp 0 (by omega)⟩
  have lr : ∀ i, i < 256 → lyR2 127 i = some (132 + 5 * i) := by
    intro i hi
    show lyRf 127 i = some (132 + 5 * i)
    have e : Nat.blt i 256 = true := by
      rw [Nat.blt_eq]
      exact hi
    unfold lyRf
    rw [show Nat.beq 127 127 = true from rfl]
    simp only [e]
  have lr2 : ∀ y q, lyR2 127 y = some q → y < 256 := by
    intro y q e
    have e' : (match Nat.blt y 256 with | true => some (132 + 5 * y) | false => none) = some q := e
    cases g : Nat.blt y 256 with
    | true => exact Nat.le_of_ble_eq_true g
    | false =>
      rw [g] at e'
      cases e'
  have r235 : ∀ (h' : mj_H) (x1 : Option Value) (bc bs : Nat), Cb zx 1412 (fun x _ => 1 ≤ x ∧ x < 1412) h' → Run 235 [some (.ref 1), x1] [] h' (bc, bs) := by
    intro h' x1 bc bs c
    refine hR 60 107 _ _ _ _ _ _ rfl ?_
    refine ⟨c.K 1 rfl, jcallP (hb h' c) ?_⟩
    rintro o h2 ⟨rfl, p2⟩
    exact ⟨rfl, p2⟩
  have r209 : ∀ (p i : Nat) (iI : Int32) (h' : mj_H) (bc bs : Nat), i + p = 256 → bc = 5 * p → bs = 2056 * p → Cb zx (132 + 5 * i) (fun x y => (1 < x ∧ x < 127) ∨ (127 < x ∧ x < 132 + 5 * i) ∨ (x = 127 ∧ y < i) ∨ (x = 1 ∧ (y = 0 ∨ y = 1 ∨ y = 2 ∨ y = 3 ∨ y = 4 ∨ y = 5 ∨ y = 6 ∨ y = 7 ∨ y = 11 ∨ y = 12 ∨ y = 13 ∨ y = 14 ∨ y = 15 ∨ y = 16 ∨ y = 17 ∨ y = 20 ∨ y = 21))) h' → iI = jI i → Run 209 [some (.ref 1), some (.int iI)] [] h' (bc, bs) := by
    intro p
    induction p with
    | zero =>
      rintro i iI h' bc bs hi hbc hbs c rfl
      have ei : i = 256 := by omega
      subst ei
      refine hR 60 95 _ _ _ _ _ _ rfl ?_
      refine ⟨fun _ => r235 h' _ _ _ (c.mono (fun x y q e z => ?_)), fun z => absurd (by decide) z⟩
      by_cases h27 : x = 127
      · subst h27
        have := lr2 y q e
        omega
      · by_cases h1 : x = 1
        · subst h1
          have h2 := lkp_mem (show lkp [(0, 2), (1, 46), (2, 52), (3, 67), (4, 69), (5, 85), (6, 97), (7, 98), (11, 99), (12, 112), (13, 113), (14, 114), (15, 127), (16, 128), (17, 129), (20, 130), (21, 131)] y = some q from e)
          simp only [List.mem_cons, Prod.mk.injEq, List.not_mem_nil, or_false] at h2
          omega
        · omega
    | succ p ih =>
      rintro i iI h' bc bs hi hbc hbs c rfl
      have hw := pw i (by omega)
      have c1 := c.new (kd := 26) (n := 0) (fun x y p => by omega) (by rw [hw.1]) (by rw [hw.1])
      have vi : vp_in (jI (i : Int)) 256 := jI_in (by omega) (by omega) (by omega)
      have nt : (jI (i : Int)).toNatClampNeg = i := by rw [jI_nat (by omega) (by omega), Int.toNat_natCast]
      have r216 : Run 216 [some (.ref 1), some (.int (jI i))] [] h' (bc, bs) := by
        refine hR 60 98 _ _ _ _ _ _ rfl ?_
        refine ⟨(c.2.1 1 (by omega)).1, _, c.R 1 15 127 rfl (by omega), ⟨by omega, by omega⟩, jcallB (ct_17 G c.1 hw (fun x y p => by omega) c1) (Nat.ble_eq_true_of_le (by omega)) (Nat.ble_eq_true_of_le (by omega)) ?_⟩
        intro h2 c2
        have kt : hK h2 (hT h') = 26 := by
          rw [c.1, (c2.2.1 _ (by omega)).1, hw.1]
        have nl : hN h2 127 = 256 := by
          rcases (c2.2.1 127 (by omega)).2 with z | z
          · omega
          · exact z
        refine ⟨Or.inr ⟨(c2.2.1 127 (by omega)).1, kt⟩, by rw [nl]; exact vi, ?_⟩
        rw [nt]
        refine ih (i + 1) _ _ _ _ (by omega) (by omega) (by omega) (Cb.mono (c2.ref (a := 127) (k := i) c.1 (lr i (by omega))) (fun x y q e z => by omega)) (by rw [jI_add]; rfl)
      refine hR 60 95 _ _ _ _ _ _ rfl ?_
      refine ⟨fun c => ?_, fun _ => r216⟩
      simp (disch := omega) only [mj_lcm, jI_lt, jI_le, jI_eq, jL_lt, jL_le, jL_eq, jI_lt0, jI_0le, jI_0lt, jI_le0, jI_eq0, jL_eq0, jI_L, jI_add, jI_sub, jI_mul, jI_neg, jL_add, jL_sub, jL_mul, jL_neg, jL_I, jI_div, jI_mod, jL_div, jL_mod] at c
      omega
  have r207 : ∀ (h' : mj_H) (x1 : Option Value), Cb zx 132 (fun x y => (1 < x ∧ x < 127) ∨ (127 < x ∧ x < 132) ∨ (x = 1 ∧ (y = 0 ∨ y = 1 ∨ y = 2 ∨ y = 3 ∨ y = 4 ∨ y = 5 ∨ y = 6 ∨ y = 7 ∨ y = 11 ∨ y = 12 ∨ y = 13 ∨ y = 14 ∨ y = 15 ∨ y = 16 ∨ y = 17 ∨ y = 20 ∨ y = 21))) h' → Run 207 [some (.ref 1), x1] [] h' (1280, 526336) := by
    intro h' x1 c
    refine hR 60 93 _ _ _ _ _ _ rfl ?_
    exact r209 256 0 _ h' _ _ (by omega) rfl rfl (c.mono (fun x y q _ z => by omega)) rfl
  have r198 : ∀ (h' : mj_H) (x1 : Option Value), Cb zx 131 (fun x y => (1 < x ∧ x < 127) ∨ (127 < x ∧ x < 131) ∨ (x = 1 ∧ (y = 0 ∨ y = 1 ∨ y = 2 ∨ y = 3 ∨ y = 4 ∨ y = 5 ∨ y = 6 ∨ y = 7 ∨ y = 11 ∨ y = 12 ∨ y = 13 ∨ y = 14 ∨ y = 15 ∨ y = 16 ∨ y = 17 ∨ y = 20))) h' → Run 198 [some (.ref 1), x1] [] h' (1281, 530432) := by
    intro h' x1 c
    refine hR 60 89 _ _ _ _ _ _ rfl ?_
    have c1 := c.newL (kd := 3) (n := (jI 4096).toNatClampNeg) (fun x y p => (or_e (fun z => Nat.lt_of_lt_of_le z.2 (by decide)) (or_e (fun z => Nat.lt_of_lt_of_le z.2 (by decide)) (fun z => eq_lt z.1 (by decide)))) p) rfl rfl
    exact ⟨⟨by decide, by decide, Nat.le_of_ble_eq_true rfl, Nat.le_of_ble_eq_true rfl⟩, c1.K 1 rfl, r207 _ _ ((c1.ref c.1 rfl).mono (fun x y q _ z => by omega))⟩
  have r189 : ∀ (h' : mj_H) (x1 : Option Value), Cb zx 130 (fun x y => (1 < x ∧ x < 127) ∨ (127 < x ∧ x < 130) ∨ (x = 1 ∧ (y = 0 ∨ y = 1 ∨ y = 2 ∨ y = 3 ∨ y = 4 ∨ y = 5 ∨ y = 6 ∨ y = 7 ∨ y = 11 ∨ y = 12 ∨ y = 13 ∨ y = 14 ∨ y = 15 ∨ y = 16 ∨ y = 17))) h' → Run 189 [some (.ref 1), x1] [] h' (1282, 534528) := by
    intro h' x1 c
    refine hR 60 85 _ _ _ _ _ _ rfl ?_
    have c1 := c.newL (kd := 4) (n := (jI 4096).toNatClampNeg) (fun x y p => (or_e (fun z => Nat.lt_of_lt_of_le z.2 (by decide)) (or_e (fun z => Nat.lt_of_lt_of_le z.2 (by decide)) (fun z => eq_lt z.1 (by decide)))) p) rfl rfl
    exact ⟨⟨by decide, by decide, Nat.le_of_ble_eq_true rfl, Nat.le_of_ble_eq_true rfl⟩, c1.K 1 rfl, r198 _ _ ((c1.ref c.1 rfl).mono (fun x y q _ z => by omega))⟩
  have r180 : ∀ (h' : mj_H) (x1 : Option Value), Cb zx 129 (fun x y => (1 < x ∧ x < 127) ∨ (127 < x ∧ x < 129) ∨ (x = 1 ∧ (y = 0 ∨ y = 1 ∨ y = 2 ∨ y = 3 ∨ y = 4 ∨ y = 5 ∨ y = 6 ∨ y = 7 ∨ y = 11 ∨ y = 12 ∨ y = 13 ∨ y = 14 ∨ y = 15 ∨ y = 16))) h' → Run 180 [some (.ref 1), x1] [] h' (1283, 534784) := by
    intro h' x1 c
    refine hR 60 81 _ _ _ _ _ _ rfl ?_
    have c1 := c.newL (kd := 1) (n := (jI 256).toNatClampNeg) (fun x y p => (or_e (fun z => Nat.lt_of_lt_of_le z.2 (by decide)) (or_e (fun z => Nat.lt_of_lt_of_le z.2 (by decide)) (fun z => eq_lt z.1 (by decide)))) p) rfl rfl
    exact ⟨⟨by decide, by decide, Nat.le_of_ble_eq_true rfl, Nat.le_of_ble_eq_true rfl⟩, c1.K 1 rfl, r189 _ _ ((c1.ref c.1 rfl).mono (fun x y q _ z => by omega))⟩
  have r171 : ∀ (h' : mj_H) (x1 : Option Value), Cb zx 128 (fun x y => (1 < x ∧ x < 127) ∨ (127 < x ∧ x < 128) ∨ (x = 1 ∧ (y = 0 ∨ y = 1 ∨ y = 2 ∨ y = 3 ∨ y = 4 ∨ y = 5 ∨ y = 6 ∨ y = 7 ∨ y = 11 ∨ y = 12 ∨ y = 13 ∨ y = 14 ∨ y = 15))) h' → Run 171 [some (.ref 1), x1] [] h' (1284, 535040) := by
    intro h' x1 c
    refine hR 60 77 _ _ _ _ _ _ rfl ?_
    have c1 := c.newL (kd := 1) (n := (jI 256).toNatClampNeg) (fun x y p => (or_e (fun z => Nat.lt_of_lt_of_le z.2 (by decide)) (or_e (fun z => Nat.lt_of_lt_of_le z.2 (by decide)) (fun z => eq_lt z.1 (by decide)))) p) rfl rfl
    exact ⟨⟨by decide, by decide, Nat.le_of_ble_eq_true rfl, Nat.le_of_ble_eq_true rfl⟩, c1.K 1 rfl, r180 _ _ ((c1.ref c.1 rfl).mono (fun x y q _ z => by omega))⟩
  have r161 : ∀ (h' : mj_H) (x1 : Option Value), Cb zx 127 (fun x y => (1 < x ∧ x < 127) ∨ (x = 1 ∧ (y = 0 ∨ y = 1 ∨ y = 2 ∨ y = 3 ∨ y = 4 ∨ y = 5 ∨ y = 6 ∨ y = 7 ∨ y = 11 ∨ y = 12 ∨ y = 13 ∨ y = 14))) h' → Run 161 [some (.ref 1), x1] [] h' (1285, 535296) := by
    intro h' x1 c
    refine hR 60 73 _ _ _ _ _ _ rfl ?_
    have c1 := c.new (kd := 6) (n := (jI 256).toNatClampNeg) (fun x y p => (or_e (fun z => Nat.lt_of_lt_of_le z.2 (by decide)) (fun z => eq_lt z.1 (by decide))) p) rfl rfl
    exact ⟨⟨by decide, by decide, Nat.le_of_ble_eq_true rfl, Nat.le_of_ble_eq_true rfl⟩, c1.K 1 rfl, r171 _ _ ((c1.ref c.1 rfl).mono (fun x y q _ z => by omega))⟩
  have r150 : ∀ (h' : mj_H) (x1 : Option Value), Cb zx 114 (fun x y => (1 < x ∧ x < 114) ∨ (x = 1 ∧ (y = 0 ∨ y = 1 ∨ y = 2 ∨ y = 3 ∨ y = 4 ∨ y = 5 ∨ y = 6 ∨ y = 7 ∨ y = 11 ∨ y = 12 ∨ y = 13))) h' → Run 150 [some (.ref 1), x1] [] h' (1298, 541464) := by
    intro h' x1 c
    refine hR 60 68 _ _ _ _ _ _ rfl ?_
    refine ⟨⟨Nat.le_of_ble_eq_true rfl, Nat.le_of_ble_eq_true rfl⟩, jcallB (ct_5_114 G c.1 (c.new (fun x y p => (or_e (fun z => Nat.lt_of_lt_of_le z.2 (by decide)) (fun z => eq_lt z.1 (by decide))) p) rfl rfl)) rfl rfl ?_⟩
    intro h2 c2
    exact ⟨c2.K 1 rfl, r161 _ _ ((c2.ref c.1 rfl).mono (fun x y q _ z => by omega))⟩
  have r139 : ∀ (h' : mj_H) (x1 : Option Value), Cb zx 113 (fun x y => (1 < x ∧ x < 113) ∨ (x = 1 ∧ (y = 0 ∨ y = 1 ∨ y = 2 ∨ y = 3 ∨ y = 4 ∨ y = 5 ∨ y = 6 ∨ y = 7 ∨ y = 11 ∨ y = 12))) h' → Run 139 [some (.ref 1), x1] [] h' (1299, 541467) := by
    intro h' x1 c
    refine hR 60 63 _ _ _ _ _ _ rfl ?_
    have c1 := c.newL (kd := 16) (n := 0) (fun x y p => (or_e (fun z => Nat.lt_of_lt_of_le z.2 (by decide)) (fun z => eq_lt z.1 (by decide))) p) rfl rfl
    exact ⟨⟨Nat.le_of_ble_eq_true rfl, Nat.le_of_ble_eq_true rfl⟩, jcallV (ct_7 G _ _) ⟨c1.K 1 rfl, r150 _ _ ((c1.ref c.1 rfl).mono (fun x y q _ z => (mono_s2 (or_st (or_st (or_st (or_st (or_st (or_st (or_st (or_st (or_st id)))))))))) z))⟩⟩
  have r128 : ∀ (h' : mj_H) (x1 : Option Value), Cb zx 112 (fun x y => (1 < x ∧ x < 112) ∨ (x = 1 ∧ (y = 0 ∨ y = 1 ∨ y = 2 ∨ y = 3 ∨ y = 4 ∨ y = 5 ∨ y = 6 ∨ y = 7 ∨ y = 11))) h' → Run 128 [some (.ref 1), x1] [] h' (1300, 541470) := by
    intro h' x1 c
    refine hR 60 58 _ _ _ _ _ _ rfl ?_
    have c1 := c.newL (kd := 16) (n := 0) (fun x y p => (or_e (fun z => Nat.lt_of_lt_of_le z.2 (by decide)) (fun z => eq_lt z.1 (by decide))) p) rfl rfl
    exact ⟨⟨Nat.le_of_ble_eq_true rfl, Nat.le_of_ble_eq_true rfl⟩, jcallV (ct_7 G _ _) ⟨c1.K 1 rfl, r139 _ _ ((c1.ref c.1 rfl).mono (fun x y q _ z => (mono_s2 (or_st (or_st (or_st (or_st (or_st (or_st (or_st (or_st id))))))))) z))⟩⟩
  have r117 : ∀ (h' : mj_H) (x1 : Option Value), Cb zx 99 (fun x y => (1 < x ∧ x < 99) ∨ (x = 1 ∧ (y = 0 ∨ y = 1 ∨ y = 2 ∨ y = 3 ∨ y = 4 ∨ y = 5 ∨ y = 6 ∨ y = 7))) h' → Run 117 [some (.ref 1), x1] [] h' (1313, 547638) := by
    intro h' x1 c
    refine hR 60 53 _ _ _ _ _ _ rfl ?_
    refine ⟨⟨Nat.le_of_ble_eq_true rfl, Nat.le_of_ble_eq_true rfl⟩, jcallB (ct_5_99 G c.1 (c.new (fun x y p => (or_e (fun z => Nat.lt_of_lt_of_le z.2 (by decide)) (fun z => eq_lt z.1 (by decide))) p) rfl rfl)) rfl rfl ?_⟩
    intro h2 c2
    exact ⟨c2.K 1 rfl, r128 _ _ ((c2.ref c.1 rfl).mono (fun x y q _ z => by omega))⟩
  have r106 : ∀ (h' : mj_H) (x1 : Option Value), Cb zx 98 (fun x y => (1 < x ∧ x < 98) ∨ (x = 1 ∧ (y = 0 ∨ y = 1 ∨ y = 2 ∨ y = 3 ∨ y = 4 ∨ y = 5 ∨ y = 6))) h' → Run 106 [some (.ref 1), x1] [] h' (1314, 547641) := by
    intro h' x1 c
    refine hR 60 48 _ _ _ _ _ _ rfl ?_
    have c1 := c.newL (kd := 16) (n := 0) (fun x y p => (or_e (fun z => Nat.lt_of_lt_of_le z.2 (by decide)) (fun z => eq_lt z.1 (by decide))) p) rfl rfl
    exact ⟨⟨Nat.le_of_ble_eq_true rfl, Nat.le_of_ble_eq_true rfl⟩, jcallV (ct_7 G _ _) ⟨c1.K 1 rfl, r117 _ _ ((c1.ref c.1 rfl).mono (fun x y q _ z => (mono_s2 (or_st (or_st (or_st (or_st (or_st (or_st id))))))) z))⟩⟩
  have r95 : ∀ (h' : mj_H) (x1 : Option Value), Cb zx 97 (fun x y => (1 < x ∧ x < 97) ∨ (x = 1 ∧ (y = 0 ∨ y = 1 ∨ y = 2 ∨ y = 3 ∨ y = 4 ∨ y = 5))) h' → Run 95 [some (.ref 1), x1] [] h' (1315, 547644) := by
    intro h' x1 c
    refine hR 60 43 _ _ _ _ _ _ rfl ?_
    have c1 := c.newL (kd := 16) (n := 0) (fun x y p => (or_e (fun z => Nat.lt_of_lt_of_le z.2 (by decide)) (fun z => eq_lt z.1 (by decide))) p) rfl rfl
    exact ⟨⟨Nat.le_of_ble_eq_true rfl, Nat.le_of_ble_eq_true rfl⟩, jcallV (ct_7 G _ _) ⟨c1.K 1 rfl, r106 _ _ ((c1.ref c.1 rfl).mono (fun x y q _ z => (mono_s2 (or_st (or_st (or_st (or_st (or_st id)))))) z))⟩⟩
  have r84 : ∀ (h' : mj_H) (x1 : Option Value), Cb zx 85 (fun x y => (1 < x ∧ x < 85) ∨ (x = 1 ∧ (y = 0 ∨ y = 1 ∨ y = 2 ∨ y = 3 ∨ y = 4))) h' → Run 84 [some (.ref 1), x1] [] h' (1327, 552785) := by
    intro h' x1 c
    refine hR 60 38 _ _ _ _ _ _ rfl ?_
    refine ⟨⟨Nat.le_of_ble_eq_true rfl, Nat.le_of_ble_eq_true rfl⟩, jcallB (ct_16_85 G c.1 (c.new (fun x y p => (or_e (fun z => Nat.lt_of_lt_of_le z.2 (by decide)) (fun z => eq_lt z.1 (by decide))) p) rfl rfl)) rfl rfl ?_⟩
    intro h2 c2
    exact ⟨c2.K 1 rfl, r95 _ _ ((c2.ref c.1 rfl).mono (fun x y q _ z => by omega))⟩
  have r73 : ∀ (h' : mj_H) (x1 : Option Value), Cb zx 69 (fun x y => (1 < x ∧ x < 69) ∨ (x = 1 ∧ (y = 0 ∨ y = 1 ∨ y = 2 ∨ y = 3))) h' → Run 73 [some (.ref 1), x1] [] h' (1343, 622457) := by
    intro h' x1 c
    refine hR 60 33 _ _ _ _ _ _ rfl ?_
    refine ⟨⟨Nat.le_of_ble_eq_true rfl, Nat.le_of_ble_eq_true rfl⟩, jcallB (ct_13_69 G c.1 (c.new (fun x y p => (or_e (fun z => Nat.lt_of_lt_of_le z.2 (by decide)) (fun z => eq_lt z.1 (by decide))) p) rfl rfl)) rfl rfl ?_⟩
    intro h2 c2
    exact ⟨c2.K 1 rfl, r84 _ _ ((c2.ref c.1 rfl).mono (fun x y q _ z => by omega))⟩
  have r62 : ∀ (h' : mj_H) (x1 : Option Value), Cb zx 67 (fun x y => (1 < x ∧ x < 67) ∨ (x = 1 ∧ (y = 0 ∨ y = 1 ∨ y = 2))) h' → Run 62 [some (.ref 1), x1] [] h' (1345, 622467) := by
    intro h' x1 c
    refine hR 60 28 _ _ _ _ _ _ rfl ?_
    refine ⟨⟨Nat.le_of_ble_eq_true rfl, Nat.le_of_ble_eq_true rfl⟩, jcallB (ct_12_67 G c.1 (c.new (fun x y p => (or_e (fun z => Nat.lt_of_lt_of_le z.2 (by decide)) (fun z => eq_lt z.1 (by decide))) p) rfl rfl)) rfl rfl ?_⟩
    intro h2 c2
    exact ⟨c2.K 1 rfl, r73 _ _ ((c2.ref c.1 rfl).mono (fun x y q _ z => by omega))⟩
  have r33 : ∀ (h' : mj_H) (x1 : Option Value), Cb zx 52 (fun x y => (1 < x ∧ x < 52) ∨ (x = 1 ∧ (y = 0 ∨ y = 1))) h' → Run 33 [some (.ref 1), x1] [] h' (1360, 671667) := by
    intro h' x1 c
    refine hR 60 15 _ _ _ _ _ _ rfl ?_
    have c1 := c.new (kd := 18) (n := 0) (fun x y p => (or_e (fun z => Nat.lt_of_lt_of_le z.2 (by decide)) (fun z => eq_lt z.1 (by decide))) p) rfl rfl
    have c2 := c1.new (kd := 19) (n := 0) (fun x y p => (or_e (fun z => Nat.lt_of_lt_of_le z.2 (by decide)) (fun z => eq_lt z.1 (by decide))) p) rfl rfl
    refine ⟨⟨Nat.le_of_ble_eq_true rfl, Nat.le_of_ble_eq_true rfl⟩, c1.K 1 rfl, _, c1.R 1 1 46 rfl (by omega), ⟨Nat.le_of_ble_eq_true rfl, Nat.le_of_ble_eq_true rfl⟩, c2.K 1 rfl, _, c2.R 1 0 2 rfl (by omega), c2.K 2 rfl, _, c2.R 2 1 7 rfl (by omega), jcallB (ct_9_53 G c1.1 c2) rfl rfl ?_⟩
    intro h3 c3
    refine jcallB (ct_11_52 G c.1 c1.1 c3) rfl rfl ?_
    intro h4 c4
    exact ⟨c4.K 1 rfl, r62 _ _ ((c4.ref c.1 rfl).mono (fun x y q _ z => by omega))⟩
  have r15 : ∀ (h' : mj_H) (x1 : Option Value), Cb zx 46 (fun x y => (1 < x ∧ x < 46) ∨ (x = 1 ∧ (y = 0))) h' → Run 15 [some (.ref 1), x1] [] h' (1366, 798654) := by
    intro h' x1 c
    refine hR 60 7 _ _ _ _ _ _ rfl ?_
    have c1 := c.new (kd := 17) (n := 0) (fun x y p => (or_e (fun z => Nat.lt_of_lt_of_le z.2 (by decide)) (fun z => eq_lt z.1 (by decide))) p) rfl rfl
    refine ⟨⟨Nat.le_of_ble_eq_true rfl, Nat.le_of_ble_eq_true rfl⟩, c1.K 1 rfl, _, c1.R 1 0 2 rfl (by omega), c1.K 2 rfl, _, c1.R 2 1 7 rfl (by omega), jcallB (ct_8_46 G c.1 c1) rfl rfl ?_⟩
    intro h2 c2
    exact ⟨c2.K 1 rfl, r33 _ _ ((c2.ref c.1 rfl).mono (fun x y q _ z => by omega))⟩
  have r4 : ∀ (h' : mj_H) (x1 : Option Value), Cb zx 2 (fun x y => (1 < x ∧ x < 2)) h' → Run 4 [some (.ref 1), x1] [] h' (1410, 820246) := by
    intro h' x1 c
    refine hR 60 2 _ _ _ _ _ _ rfl ?_
    refine ⟨⟨Nat.le_of_ble_eq_true rfl, Nat.le_of_ble_eq_true rfl⟩, jcallB (ct_2_2 G c.1 (c.new (fun x y p => (fun z => Nat.lt_of_lt_of_le z.2 (by decide)) p) rfl rfl)) rfl rfl ?_⟩
    intro h2 c2
    exact ⟨c2.K 1 rfl, r15 _ _ ((c2.ref c.1 rfl).mono (fun x y q _ z => by omega))⟩
  refine hR 60 0 _ _ _ _ _ _ rfl ?_
  exact r4 h _ (c.mono (fun x y q _ z => by omega))
