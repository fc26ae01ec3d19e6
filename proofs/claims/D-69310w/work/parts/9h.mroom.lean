/-! the model: rows get more digits; steps there and back -/
def roomP (n : Nat) (v : Int) : Prop := -(pB (n - 4)) ≤ v ∧ v < pB (n - 4)
theorem q_sgn {n : Nat} (hn : 0 < n) {v : Int} (hr : rgD n v) : v / pB n = if v < 0 then -1 else 0 := by
  have hp := pB_pos (n - 1)
  have e : pB n = pB (n - 1) * 65536 := by
    have := pB_s (n - 1)
    rwa [show n - 1 + 1 = n by omega] at this
  have hp2 := pB_pos n
  obtain ⟨r1, r2⟩ := hr
  generalize pB (n - 1) = p at hp e r1 r2
  generalize pB n = P at hp2 e ⊢
  by_cases z : v < 0
  · rw [if_pos z]
    have a1 := Int.ediv_neg_of_neg_of_pos z hp2
    have a2 : -1 ≤ v / P := Int.le_ediv_of_mul_le hp2 (by omega)
    omega
  · rw [if_neg z]
    exact Int.ediv_eq_zero_of_lt (by omega) (by omega)
theorem room_iff {n : Nat} (hn : 8 ≤ n) {v : Int} (hr : rgD n v) : roomP n v ↔ (dgt v (n - 1) = (if v < 0 then 65535 else 0) ∧ dgt v (n - 2) = (if v < 0 then 65535 else 0) ∧ dgt v (n - 3) = (if v < 0 then 65535 else 0) ∧ dgt v (n - 4) = (if v < 0 then 65535 else 0)) := by
  have q0 := q_sgn (by omega) hr
  have q1 := q_next v (n - 1)
  have q2 := q_next v (n - 2)
  have q3 := q_next v (n - 3)
  have q4 := q_next v (n - 4)
  rw [show n - 1 + 1 = n by omega] at q1
  rw [show n - 2 + 1 = n - 1 by omega] at q2
  rw [show n - 3 + 1 = n - 2 by omega] at q3
  rw [show n - 4 + 1 = n - 3 by omega] at q4
  have d1 := dgt_rng v (n - 1)
  have d2 := dgt_rng v (n - 2)
  have d3 := dgt_rng v (n - 3)
  have d4 := dgt_rng v (n - 4)
  have hp := pB_pos (n - 4)
  have key : roomP n v ↔ v / pB (n - 4) = if v < 0 then -1 else 0 := by
    unfold roomP
    by_cases z : v < 0
    · rw [if_pos z]
      constructor
      · intro h
        have a1 := Int.ediv_neg_of_neg_of_pos z hp
        have a2 : -1 ≤ v / pB (n - 4) := Int.le_ediv_of_mul_le hp (by omega)
        omega
      · intro h
        have := Int.mul_ediv_add_emod v (pB (n - 4))
        have m0 := Int.emod_nonneg v (show pB (n - 4) ≠ 0 by omega)
        rw [h] at this
        omega
    · rw [if_neg z]
      constructor
      · intro h
        exact Int.ediv_eq_zero_of_lt (by omega) h.2
      · intro h
        have := Int.mul_ediv_add_emod v (pB (n - 4))
        have m0 := Int.emod_lt_of_pos v hp
        rw [h] at this
        omega
  rw [key]
  clear key hp hr
  generalize v / pB n = Q0 at *
  generalize v / pB (n - 1) = Q1 at *
  generalize v / pB (n - 2) = Q2 at *
  generalize v / pB (n - 3) = Q3 at *
  generalize v / pB (n - 4) = Q4 at *
  generalize dgt v (n - 1) = D1 at *
  generalize dgt v (n - 2) = D2 at *
  generalize dgt v (n - 3) = D3 at *
  generalize dgt v (n - 4) = D4 at *
  by_cases z : v < 0
  · rw [if_pos z] at q0
    rw [if_pos z, if_pos z]
    omega
  · rw [if_neg z] at q0
    rw [if_neg z, if_neg z]
    omega
/-- FormHouseModel.hasRoom(I)Z; cuts at [15, 16, 31, 46, 61] -/
def cl_249_1 : List mj_E := (42, false, .iload_n 2, 1, 0, 0, 0, 0, 0) ::
  (43, false, .if_icmp .ne 37, 3, 46, 0, 0, 0, 0) ::
  (46, true, .aload_n 0, 1, 0, 0, 0, 0, 0) ::
  (47, false, .iload_n 1, 1, 0, 0, 0, 0, 0) ::
  (48, false, .aload_n 0, 1, 0, 0, 0, 0, 0) ::
  (49, false, .getfield 313, 3, 17, 48, 0, 0, 0) ::
  (52, false, .iconst 4, 1, 0, 0, 0, jI 4, 0) ::
  (53, false, .isub, 1, 0, 0, 0, 0, 0) ::
  (54, false, .invokevirtual 316, 3, 237, 2, 17, 0, 0) ::
  (57, false, .iload_n 2, 1, 0, 0, 0, 0, 0) ::
  (58, false, .if_icmp .ne 22, 3, 46, 0, 0, 0, 0) ::
  (61, true, .aload_n 0, 1, 0, 0, 0, 0, 0) ::
  (62, false, .iload_n 1, 1, 0, 0, 0, 0, 0) ::
  (63, false, .aload_n 0, 1, 0, 0, 0, 0, 0) ::
  (64, false, .getfield 313, 3, 17, 48, 0, 0, 0) ::
  (67, false, .iconst 1, 1, 0, 0, 0, jI 1, 0) ::
  (68, false, .isub, 1, 0, 0, 0, 0, 0) ::
  (69, false, .invokevirtual 316, 3, 237, 2, 17, 0, 0) ::
  (72, false, .iload_n 2, 1, 0, 0, 0, 0, 0) ::
  (73, false, .if_icmp .ne 7, 3, 46, 0, 0, 0, 0) ::
  (76, false, .iconst 1, 1, 0, 0, 0, jI 1, 0) ::
  (77, false, .goto 4, 3, 47, 0, 0, 0, 0) ::
  (80, false, .iconst 0, 1, 0, 0, 0, jI 0, 0) ::
  (81, false, .ireturn, 1, 0, 0, 0, 0, 0) ::
  []
def cl_249_0 : List mj_E := (0, false, .aload_n 0, 1, 0, 0, 0, 0, 0) ::
  (1, false, .iload_n 1, 1, 0, 0, 0, 0, 0) ::
  (2, false, .invokevirtual 322, 3, 238, 1, 17, 0, 0) ::
  (5, false, .ifCond .eq 9, 3, 6, 0, 0, 0, 0) ::
  (8, false, .ldc_w 325, 3, 0, 0, 0, jI 65535, 0) ::
  (11, false, .goto 4, 3, 7, 0, 0, 0, 0) ::
  (14, false, .iconst 0, 1, 0, 0, 0, jI 0, 0) ::
  (15, true, .istore_n 2, 1, 0, 0, 0, 0, 0) ::
  (16, true, .aload_n 0, 1, 0, 0, 0, 0, 0) ::
  (17, false, .iload_n 1, 1, 0, 0, 0, 0, 0) ::
  (18, false, .aload_n 0, 1, 0, 0, 0, 0, 0) ::
  (19, false, .getfield 313, 3, 17, 48, 0, 0, 0) ::
  (22, false, .iconst 2, 1, 0, 0, 0, jI 2, 0) ::
  (23, false, .isub, 1, 0, 0, 0, 0, 0) ::
  (24, false, .invokevirtual 316, 3, 237, 2, 17, 0, 0) ::
  (27, false, .iload_n 2, 1, 0, 0, 0, 0, 0) ::
  (28, false, .if_icmp .ne 52, 3, 46, 0, 0, 0, 0) ::
  (31, true, .aload_n 0, 1, 0, 0, 0, 0, 0) ::
  (32, false, .iload_n 1, 1, 0, 0, 0, 0, 0) ::
  (33, false, .aload_n 0, 1, 0, 0, 0, 0, 0) ::
  (34, false, .getfield 313, 3, 17, 48, 0, 0, 0) ::
  (37, false, .iconst 3, 1, 0, 0, 0, jI 3, 0) ::
  (38, false, .isub, 1, 0, 0, 0, 0, 0) ::
  (39, false, .invokevirtual 316, 3, 237, 2, 17, 0, 0) ::
  cl_249_1
def cd_249 : List mj_E := cl_249_0
def cx_249 : mj_X := (4, [], [])
theorem tb_249 : mj_tab (mj_mt 249) cx_249 cd_249 mj_mh [(0, 0, 0), (0, 0, 0), (8100, 0, 0), (0, 0, 0), (8116, 0, 0), (0, 0, 0), (0, 0, 0), (0, 0, 0), (0, 0, 0), (0, 0, 0), (0, 0, 0), (7147, 0, 0), (0, 0, 0), (0, 0, 0), (8096, 0, 0), (0, 0, 0), (0, 0, 0), (0, 0, 0), (0, 0, 0), (0, 0, 0), (7147, 0, 0), (0, 0, 0), (0, 0, 0), (8096, 0, 0), (0, 0, 0), (0, 0, 0), (0, 0, 0), (0, 0, 0), (0, 0, 0), (7147, 0, 0), (0, 0, 0), (0, 0, 0), (8096, 0, 0), (0, 0, 0), (0, 0, 0), (0, 0, 0), (0, 0, 0), (0, 0, 0), (7147, 0, 0), (0, 0, 0), (0, 0, 0), (8096, 0, 0), (0, 0, 0), (0, 0, 0), (0, 0, 0), (0, 0, 0), (0, 0, 0), (0, 0, 0)] = true := mj_tab_f (by decide +kernel)
theorem ct_249 (G : mj_G) {h : mj_H} (hm : isMd h) {i n : Nat} (hi : i < 5) (hn : isDg h n) {v : Int} (hv : isD h i n v) (hr : rgD n v) : mj_Ct G (mj_mt 249) 0 0 [.ref 1412, .int (jI i)] h (fun o h' => h' = h ∧ ∃ b : Int, o = .returned (some (.int (jI b))) ∧ ((b = 1 ∧ roomP n v) ∨ (b = 0 ∧ ¬ roomP n v))) := by
  have hn' := hn
  obtain ⟨n1, n2, n3⟩ := hn'
  have ri := room_iff n2 hr
  obtain ⟨s, hs⟩ : ∃ s : Int, s = if v < 0 then 65535 else 0 := ⟨_, rfl⟩
  rw [← hs] at ri
  have hs0 : 0 ≤ s ∧ s < 65536 := by
    rw [hs]
    split <;> omega
  have dig : ∀ e : Nat, 0 < e → e ≤ 4 → mj_Ct G (mj_mt 237) 0 0 [.ref 1412, .int (jI i), .int (hI h 1412 48 - jI (e : Int))] h (jR (.int (jI (dgt v (n - e)))) h) := by
    intro e e0 e4
    have c := ct_237 G hm hi (k := n - e) (by omega)
    rw [hv (n - e) (by omega)] at c
    rw [n1, jI_sub, show (n : Int) - (e : Int) = ((n - e : Nat) : Int) by omega]
    exact c
  have d1 := dgt_rng v (n - 1)
  have d2 := dgt_rng v (n - 2)
  have d3 := dgt_rng v (n - 3)
  have d4 := dgt_rng v (n - 4)
  refine mj_Ct_of mj_ok tb_249 rfl rfl (Nat.le_of_ble_eq_true rfl) (fun Run hR => ?_)
  have no : ¬ roomP n v → jR (.int (jI 0)) h (.returned (some (.int (jI 0)))) h → (fun o h' => h' = h ∧ ∃ b : Int, o = .returned (some (.int (jI b))) ∧ ((b = 1 ∧ roomP n v) ∨ (b = 0 ∧ ¬ roomP n v))) (Outcome.returned (some (.int (jI 0)))) h := fun z _ => ⟨rfl, 0, rfl, Or.inr ⟨rfl, z⟩⟩
  have r61 : dgt v (n - 2) = s → dgt v (n - 3) = s → dgt v (n - 4) = s → Run 61 [some (.ref 1412), some (.int (jI i)), some (.int (jI s))] [] h (0, 0) := by
    intro z2 z3 z4
    refine hR 60 35 _ _ _ _ _ _ rfl ?_
    refine ⟨hm.1, hm.1, jcall (dig 1 (by omega) (by omega)) ?_⟩
    refine ⟨fun c => ⟨Or.inr rfl, ?_⟩, fun c => ⟨Or.inl rfl, ?_⟩⟩
    · rw [jI_eq (by omega) (by omega) (by omega) (by omega)] at c
      exact ⟨rfl, 1, rfl, Or.inl ⟨rfl, ri.2 ⟨c, z2, z3, z4⟩⟩⟩
    · rw [jI_eq (by omega) (by omega) (by omega) (by omega)] at c
      exact ⟨rfl, 0, rfl, Or.inr ⟨rfl, fun q => c (ri.1 q).1⟩⟩
  have r46 : dgt v (n - 2) = s → dgt v (n - 3) = s → Run 46 [some (.ref 1412), some (.int (jI i)), some (.int (jI s))] [] h (0, 0) := by
    intro z2 z3
    refine hR 60 26 _ _ _ _ _ _ rfl ?_
    refine ⟨hm.1, hm.1, jcall (dig 4 (by omega) (by omega)) ?_⟩
    refine ⟨fun c => ?_, fun c => ⟨Or.inl rfl, ?_⟩⟩
    · rw [jI_eq (by omega) (by omega) (by omega) (by omega)] at c
      exact r61 z2 z3 c
    · rw [jI_eq (by omega) (by omega) (by omega) (by omega)] at c
      exact ⟨rfl, 0, rfl, Or.inr ⟨rfl, fun q => c (ri.1 q).2.2.2⟩⟩
  have r31 : dgt v (n - 2) = s → Run 31 [some (.ref 1412), some (.int (jI i)), some (.int (jI s))] [] h (0, 0) := by
    intro z2
    refine hR 60 17 _ _ _ _ _ _ rfl ?_
    refine ⟨hm.1, hm.1, jcall (dig 3 (by omega) (by omega)) ?_⟩
    refine ⟨fun c => ?_, fun c => ⟨Or.inl rfl, ?_⟩⟩
    · rw [jI_eq (by omega) (by omega) (by omega) (by omega)] at c
      exact r46 z2 c
    · rw [jI_eq (by omega) (by omega) (by omega) (by omega)] at c
      exact ⟨rfl, 0, rfl, Or.inr ⟨rfl, fun q => c (ri.1 q).2.2.1⟩⟩
  have r16 : Run 16 [some (.ref 1412), some (.int (jI i)), some (.int (jI s))] [] h (0, 0) := by
    refine hR 60 8 _ _ _ _ _ _ rfl ?_
    refine ⟨hm.1, hm.1, jcall (dig 2 (by omega) (by omega)) ?_⟩
    refine ⟨fun c => ?_, fun c => ⟨Or.inl rfl, ?_⟩⟩
    · rw [jI_eq (by omega) (by omega) (by omega) (by omega)] at c
      exact r31 c
    · rw [jI_eq (by omega) (by omega) (by omega) (by omega)] at c
      exact ⟨rfl, 0, rfl, Or.inr ⟨rfl, fun q => c (ri.1 q).2.1⟩⟩
  have r15 : ∀ (sI' : Int32) (x2 : Option Value), sI' = jI s → Run 15 [some (.ref 1412), some (.int (jI i)), x2] [.int sI'] h (0, 0) := by
    rintro sI' x2 rfl
    refine hR 60 7 _ _ _ _ _ _ rfl ?_
    exact r16
  refine hR 60 0 _ _ _ _ _ _ rfl ?_
  refine ⟨hm.1, jcall (ct_238' G hm hi hn hv hr) ?_⟩
  by_cases z : v < 0
  · rw [if_pos z] at hs ⊢
    exact ⟨fun c => absurd c (by decide), fun c => r15 _ _ (by rw [hs])⟩
  · rw [if_neg z] at hs ⊢
    exact ⟨fun c => r15 _ _ (by rw [hs]), fun c => absurd rfl c⟩
theorem rgD_wide {n : Nat} (hn : 0 < n) {v : Int} (hr : rgD n v) : rgD (n + 4) v ∧ roomP (n + 4) v := by
  have hp := pB_pos (n - 1)
  have e : pB n = pB (n - 1) * 65536 := by
    have := pB_s (n - 1)
    rwa [show n - 1 + 1 = n by omega] at this
  have m : pB n ≤ pB (n + 4 - 1) := pB_mono (by omega)
  obtain ⟨r1, r2⟩ := hr
  unfold rgD roomP
  rw [show n + 4 - 4 = n by omega]
  omega
theorem dgt_up {n : Nat} (hn : 0 < n) {v : Int} (hr : rgD n v) {k : Nat} (hk : n ≤ k) : dgt v k = if v < 0 then 65535 else 0 := by
  have hp := pB_pos n
  have m : pB n ≤ pB k := pB_mono hk
  have q := q_sgn hn hr
  have hpk := pB_pos k
  unfold dgt
  by_cases z : v < 0
  · rw [if_pos z] at q ⊢
    have h1 := Int.mul_ediv_add_emod v (pB n)
    have h2 := Int.emod_nonneg v (show pB n ≠ 0 by omega)
    rw [q] at h1
    have a1 := Int.ediv_neg_of_neg_of_pos z hpk
    have a2 : -1 ≤ v / pB k := Int.le_ediv_of_mul_le hpk (by omega)
    rw [show v / pB k = -1 by omega]
    rfl
  · rw [if_neg z] at q ⊢
    have h1 := Int.mul_ediv_add_emod v (pB n)
    have h2 := Int.emod_lt_of_pos v hp
    rw [q] at h1
    rw [Int.ediv_eq_zero_of_lt (by omega) (by omega)]
    rfl
/-- four rows, and what they hold -/
def isS (h : mj_H) (n : Nat) (V : Nat → Int) : Prop := isDg h n ∧ isOK h ∧ ∀ i, i < 4 → isD h i n (V i) ∧ rgD n (V i)
abbrev i48 (k : Nat) : Prop := k = 48
abbrev s40 (c : Nat) : Prop := c = 1440
theorem FrD.toM {t n : Nat} {h h' : mj_H} (f : FrD t n h h') : FrM i48 noT s40 h h' := FrI.toM f.1 (by simp) (fun x hx => List.mem_singleton.1 hx)
/-- FormHouseModel.widen()V; cuts at [17, 19, 24, 39, 40, 45, 55, 68] -/
def cl_248_1 : List mj_E := (44, false, .istore_n 3, 1, 0, 0, 0, 0, 0) ::
  (45, true, .iload_n 3, 1, 0, 0, 0, 0, 0) ::
  (46, false, .aload_n 0, 1, 0, 0, 0, 0, 0) ::
  (47, false, .getfield 313, 3, 17, 48, 0, 0, 0) ::
  (50, false, .iconst 4, 1, 0, 0, 0, jI 4, 0) ::
  (51, false, .iadd, 1, 0, 0, 0, 0, 0) ::
  (52, false, .if_icmp .ge 16, 3, 38, 0, 0, 0, 0) ::
  (55, true, .aload_n 0, 1, 0, 0, 0, 0, 0) ::
  (56, false, .iload_n 1, 1, 0, 0, 0, 0, 0) ::
  (57, false, .iload_n 3, 1, 0, 0, 0, 0, 0) ::
  (58, false, .iload_n 2, 1, 0, 0, 0, 0, 0) ::
  (59, false, .invokevirtual 319, 3, 234, 3, 17, 0, 0) ::
  (62, false, .iinc 3 1, 3, 0, 0, 0, jI 1, 0) ::
  (65, false, .goto (-20), 3, 25, 0, 0, 0, 0) ::
  (68, true, .iinc 1 1, 3, 0, 0, 0, jI 1, 0) ::
  (71, false, .goto (-52), 3, 11, 0, 0, 0, 0) ::
  (74, false, .aload_n 0, 1, 0, 0, 0, 0, 0) ::
  (75, false, .dup, 1, 0, 0, 0, 0, 0) ::
  (76, false, .getfield 313, 3, 17, 48, 0, 0, 0) ::
  (79, false, .iconst 4, 1, 0, 0, 0, jI 4, 0) ::
  (80, false, .iadd, 1, 0, 0, 0, 0, 0) ::
  (81, false, .putfield 313, 3, 17, 48, 0, 0, 0) ::
  (84, false, .return_, 1, 0, 0, 0, 0, 0) ::
  []
def cl_248_0 : List mj_E := (0, false, .aload_n 0, 1, 0, 0, 0, 0, 0) ::
  (1, false, .iconst 0, 1, 0, 0, 0, jI 0, 0) ::
  (2, false, .invokevirtual 326, 3, 249, 1, 17, 0, 0) ::
  (5, false, .ifCond .eq 12, 3, 9, 0, 0, 0, 0) ::
  (8, false, .aload_n 0, 1, 0, 0, 0, 0, 0) ::
  (9, false, .iconst 1, 1, 0, 0, 0, jI 1, 0) ::
  (10, false, .invokevirtual 326, 3, 249, 1, 17, 0, 0) ::
  (13, false, .ifCond .eq 4, 3, 9, 0, 0, 0, 0) ::
  (16, false, .return_, 1, 0, 0, 0, 0, 0) ::
  (17, true, .iconst 0, 1, 0, 0, 0, jI 0, 0) ::
  (18, false, .istore_n 1, 1, 0, 0, 0, 0, 0) ::
  (19, true, .iload_n 1, 1, 0, 0, 0, 0, 0) ::
  (20, false, .iconst 4, 1, 0, 0, 0, jI 4, 0) ::
  (21, false, .if_icmp .ge 53, 3, 40, 0, 0, 0, 0) ::
  (24, true, .aload_n 0, 1, 0, 0, 0, 0, 0) ::
  (25, false, .iload_n 1, 1, 0, 0, 0, 0, 0) ::
  (26, false, .invokevirtual 322, 3, 238, 1, 17, 0, 0) ::
  (29, false, .ifCond .eq 9, 3, 20, 0, 0, 0, 0) ::
  (32, false, .ldc_w 325, 3, 0, 0, 0, jI 65535, 0) ::
  (35, false, .goto 4, 3, 21, 0, 0, 0, 0) ::
  (38, false, .iconst 0, 1, 0, 0, 0, jI 0, 0) ::
  (39, true, .istore_n 2, 1, 0, 0, 0, 0, 0) ::
  (40, true, .aload_n 0, 1, 0, 0, 0, 0, 0) ::
  (41, false, .getfield 313, 3, 17, 48, 0, 0, 0) ::
  cl_248_1
def cd_248 : List mj_E := cl_248_0
def cx_248 : mj_X := (0, [], [])
theorem tb_248 : mj_tab (mj_mt 248) cx_248 cd_248 mj_mh [(0, 0, 0), (0, 0, 0), (8145, 0, 0), (0, 0, 0), (0, 0, 0), (0, 0, 0), (8145, 0, 0), (0, 0, 0), (0, 0, 0), (0, 0, 0), (0, 0, 0), (0, 0, 0), (0, 0, 0), (0, 0, 0), (0, 0, 0), (0, 0, 0), (8100, 0, 0), (0, 0, 0), (8116, 0, 0), (0, 0, 0), (0, 0, 0), (0, 0, 0), (0, 0, 0), (7147, 0, 0), (0, 0, 0), (0, 0, 0), (0, 0, 0), (7147, 0, 0), (0, 0, 0), (0, 0, 0), (0, 0, 0), (0, 0, 0), (0, 0, 0), (0, 0, 0), (0, 0, 0), (8084, 0, 0), (0, 0, 0), (0, 0, 0), (0, 0, 0), (0, 0, 0), (0, 0, 0), (0, 0, 0), (7147, 0, 0), (0, 0, 0), (0, 0, 0), (7147, 0, 0), (0, 0, 0)] = true := mj_tab_f (by decide +kernel)
theorem ct_248 (G : mj_G) {h : mj_H} (L : isLam h) {n : Nat} {V : Nat → Int} (hs : isS h n V) (hcap : n ≤ 2196) : mj_Ct G (mj_mt 248) 0 0 [.ref 1412] h (fun o h' => o = .returned none ∧ (∃ m, isS h' m V ∧ roomP m (V 0) ∧ roomP m (V 1) ∧ (m = n ∨ (m = n + 4 ∧ ¬ (roomP n (V 0) ∧ roomP n (V 1))))) ∧ FrM i48 noT s40 h h') := by
  obtain ⟨hn, hok, hd⟩ := hs
  have hn' := hn
  obtain ⟨n1, n2, n3⟩ := hn'
  have hm := L.Md
  refine mj_Ct_of mj_ok tb_248 rfl rfl (Nat.le_of_ble_eq_true rfl) (fun Run hR => ?_)
  have wide : ¬ (roomP n (V 0) ∧ roomP n (V 1)) → ∀ (x1 x2 x3 : Option Value), Run 17 [some (.ref 1412), x1, x2, x3] [] h (0, 0) := by
    intro hno
    have r19 : ∀ (q i : Nat) (iI : Int32) (h' : mj_H) (x2 x3 : Option Value), i + q = 4 → FrI [1440] h h' → isOK h' → (∀ j, j < 4 → isD h' j n (V j)) → (∀ j, j < i → isD h' j (n + 4) (V j)) → iI = jI i → Run 19 [some (.ref 1412), some (.int iI), x2, x3] [] h' (0, 0) := by
      intro q
      induction q with
      | zero =>
        rintro i iI h' x2 x3 hi F ho hd1 hd2 rfl
        have g1 : hI h' 1412 48 = jI n := (congrFun (F.2 1412 (by simp)) 48).trans n1
        have K := (L.fr F.1).K 1412 rfl
        refine hR 60 11 _ _ _ _ _ _ rfl ?_
        refine ⟨fun c => ⟨K, K, rfl, ⟨n + 4, ⟨⟨?_, by omega, by omega⟩, ho, fun j hj => ⟨hd2 j (by omega), (rgD_wide (by omega) (hd j hj).2).1⟩⟩, (rgD_wide (by omega) (hd 0 (by omega)).2).2, (rgD_wide (by omega) (hd 1 (by omega)).2).2, Or.inr ⟨rfl, hno⟩⟩, ?_⟩, fun c => ?_⟩
        · refine (sI_at _ _ _ _).trans ?_
          rw [g1, jI_add]
          rfl
        · exact (FrI.toM (I := i48) (J := noT) (S := s40) F (by simp) (fun x hx => List.mem_singleton.1 hx)).fI rfl _
        · simp (disch := omega) only [mj_lcm, jI_lt, jI_le, jI_eq, jL_lt, jL_le, jL_eq, jI_lt0, jI_0le, jI_0lt, jI_le0, jI_eq0, jL_eq0, jI_L, jI_add, jI_sub, jI_mul, jI_neg, jL_add, jL_sub, jL_mul, jL_neg, jL_I, jI_div, jI_mod, jL_div, jL_mod] at c
          omega
      | succ q ih =>
        rintro i iI h' x2 x3 hi F ho hd1 hd2 rfl
        have m' := hm.fr F.1
        have g1 : hI h' 1412 48 = jI n := (congrFun (F.2 1412 (by simp)) 48).trans n1
        have hri := (hd i (by omega)).2
        obtain ⟨s, hs⟩ : ∃ s : Int, s = if V i < 0 then 65535 else 0 := ⟨_, rfl⟩
        have hs0 : 0 ≤ s ∧ s < 65536 := by
          rw [hs]
          split <;> omega
        have r68 : ∀ (h3 : mj_H) (x2 x3 : Option Value), FrI [1440] h h3 → isOK h3 → (∀ j, j < 4 → isD h3 j n (V j)) → (∀ j, j < i + 1 → isD h3 j (n + 4) (V j)) → Run 68 [some (.ref 1412), some (.int (jI i)), x2, x3] [] h3 (0, 0) := by
          intro h3 x2 x3 F3 ho3 a3 b3
          refine hR 60 38 _ _ _ _ _ _ rfl ?_
          exact ih (i + 1) _ h3 _ _ (by omega) F3 ho3 a3 b3 (by rw [jI_add]; rfl)
        have r45 : ∀ (p k : Nat) (kI : Int32) (h3 : mj_H), k + p = n + 4 → n ≤ k → FrI [1440] h h3 → isOK h3 → (∀ j, j < 4 → isD h3 j n (V j)) → (∀ j, j < i → isD h3 j (n + 4) (V j)) → isD h3 i k (V i) → kI = jI k → Run 45 [some (.ref 1412), some (.int (jI i)), some (.int (jI s)), some (.int kI)] [] h3 (0, 0) := by
          intro p
          induction p with
          | zero =>
            rintro k kI h3 hk hnk F3 ho3 a3 b3 c3 rfl
            have g3 : hI h3 1412 48 = jI n := (congrFun (F3.2 1412 (by simp)) 48).trans n1
            refine hR 60 25 _ _ _ _ _ _ rfl ?_
            refine ⟨(hm.fr F3.1).1, fun c => ?_, fun c => ?_⟩
            · refine r68 h3 _ _ F3 ho3 a3 (fun j hj => ?_)
              by_cases z : j = i
              · rw [z]
                rw [show n + 4 = k by omega]
                exact c3
              · exact b3 j (by omega)
            · rw [g3] at c
              simp (disch := omega) only [mj_lcm, jI_lt, jI_le, jI_eq, jL_lt, jL_le, jL_eq, jI_lt0, jI_0le, jI_0lt, jI_le0, jI_eq0, jL_eq0, jI_L, jI_add, jI_sub, jI_mul, jI_neg, jL_add, jL_sub, jL_mul, jL_neg, jL_I, jI_div, jI_mod, jL_div, jL_mod] at c
              omega
          | succ p ihp =>
            rintro k kI h3 hk hnk F3 ho3 a3 b3 c3 rfl
            have m3 := hm.fr F3.1
            have g3 : hI h3 1412 48 = jI n := (congrFun (F3.2 1412 (by simp)) 48).trans n1
            have r55 : Run 55 [some (.ref 1412), some (.int (jI i)), some (.int (jI s)), some (.int (jI k))] [] h3 (0, 0) := by
              refine hR 60 31 _ _ _ _ _ _ rfl ?_
              refine ⟨m3.1, jcallV (ct_234 G m3 (i := i) (by omega) (k := k) (by omega) _) ?_⟩
              have es := dgt_up (by omega) hri hnk
              rw [← hs] at es
              refine ihp (k + 1) _ _ (by omega) (by omega) (F3.sI (by simp) _ _) (fun c hc => ?_) (fun j hj l hl => (sI_k _ _ (by omega) _).trans (a3 j hj l hl)) (fun j hj l hl => (sI_k _ _ (by omega) _).trans (b3 j hj l hl)) (fun l hl => ?_) (by rw [jI_add]; rfl)
              · by_cases z : c = 2200 * i + k
                · exact ⟨s, hs0.1, hs0.2, by rw [z]; exact sI_at _ _ _ _⟩
                · obtain ⟨e, e1, e2, e3⟩ := ho3 c hc
                  exact ⟨e, e1, e2, (sI_k _ _ z _).trans e3⟩
              · by_cases z : l = k
                · rw [z, es]
                  exact sI_at _ _ _ _
                · exact (sI_k _ _ (by omega) _).trans (c3 l (by omega))
            refine hR 60 25 _ _ _ _ _ _ rfl ?_
            refine ⟨m3.1, fun c => ?_, fun c => r55⟩
            rw [g3] at c
            simp (disch := omega) only [mj_lcm, jI_lt, jI_le, jI_eq, jL_lt, jL_le, jL_eq, jI_lt0, jI_0le, jI_0lt, jI_le0, jI_eq0, jL_eq0, jI_L, jI_add, jI_sub, jI_mul, jI_neg, jL_add, jL_sub, jL_mul, jL_neg, jL_I, jI_div, jI_mod, jL_div, jL_mod] at c
            omega
        have r40 : ∀ x3 : Option Value, Run 40 [some (.ref 1412), some (.int (jI i)), some (.int (jI s)), x3] [] h' (0, 0) := by
          intro x3
          refine hR 60 22 _ _ _ _ _ _ rfl ?_
          refine ⟨m'.1, ?_⟩
          rw [g1]
          exact r45 4 n _ h' (by omega) (Nat.le_refl _) F ho hd1 hd2 (hd1 i (by omega)) rfl
        have r39 : ∀ (sI' : Int32) (x2 x3 : Option Value), sI' = jI s → Run 39 [some (.ref 1412), some (.int (jI i)), x2, x3] [.int sI'] h' (0, 0) := by
          rintro sI' x2 x3 rfl
          refine hR 60 21 _ _ _ _ _ _ rfl ?_
          exact r40 _
        have r24 : ∀ (x2 x3 : Option Value), Run 24 [some (.ref 1412), some (.int (jI i)), x2, x3] [] h' (0, 0) := by
          intro x2 x3
          refine hR 60 14 _ _ _ _ _ _ rfl ?_
          refine ⟨m'.1, jcall (ct_238' G m' (i := i) (by omega) ⟨g1, n2, n3⟩ (hd1 i (by omega)) hri) ?_⟩
          by_cases z : V i < 0
          · rw [if_pos z] at hs ⊢
            exact ⟨fun c => absurd c (by decide), fun c => r39 _ _ _ (by rw [hs])⟩
          · rw [if_neg z] at hs ⊢
            exact ⟨fun c => r39 _ _ _ (by rw [hs]), fun c => absurd rfl c⟩
        refine hR 60 11 _ _ _ _ _ _ rfl ?_
        refine ⟨fun c => ?_, fun c => r24 _ _⟩
        simp (disch := omega) only [mj_lcm, jI_lt, jI_le, jI_eq, jL_lt, jL_le, jL_eq, jI_lt0, jI_0le, jI_0lt, jI_le0, jI_eq0, jL_eq0, jI_L, jI_add, jI_sub, jI_mul, jI_neg, jL_add, jL_sub, jL_mul, jL_neg, jL_I, jI_div, jI_mod, jL_div, jL_mod] at c
        omega
    intro x1 x2 x3
    refine hR 60 9 _ _ _ _ _ _ rfl ?_
    exact r19 4 0 _ h _ _ (by omega) (FrI.refl _ _) hok (fun j hj => (hd j hj).1) (fun j hj => by omega) rfl
  refine hR 60 0 _ _ _ _ _ _ rfl ?_
  refine ⟨hm.1, jcallP (ct_249 G hm (i := 0) (by omega) hn (hd 0 (by omega)).1 (hd 0 (by omega)).2) ?_⟩
  rintro o h3 ⟨e3, b, rfl, hb⟩
  have e3' := e3.symm
  subst e3'
  rcases hb with ⟨rfl, hb⟩ | ⟨rfl, hb⟩
  · refine ⟨fun c => absurd c (by decide), fun c => ⟨hm.1, jcallP (ct_249 G hm (i := 1) (by omega) hn (hd 1 (by omega)).1 (hd 1 (by omega)).2) ?_⟩⟩
    rintro o h4 ⟨e4, b, rfl, hb2⟩
    have e4' := e4.symm
    subst e4'
    rcases hb2 with ⟨rfl, hb2⟩ | ⟨rfl, hb2⟩
    · refine ⟨fun c => absurd c (by decide), fun c => ⟨rfl, ⟨n, ⟨hn, hok, hd⟩, hb, hb2, Or.inl rfl⟩, FrM.refl _ _ _ h⟩⟩
    · exact ⟨fun c => wide (fun q => hb2 q.2) _ _ _, fun c => absurd rfl c⟩
  · exact ⟨fun c => wide (fun q => hb q.1) _ _ _, fun c => absurd rfl c⟩
