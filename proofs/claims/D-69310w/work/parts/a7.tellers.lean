/-! the house: tellers -/
abbrev sTl (a : Nat) : Prop := a = 1 ∨ a = 113 ∨ a = 130 ∨ a = 131 ∨ (69 ≤ a ∧ a ≤ 84)
abbrev i22 (k : Nat) : Prop := k = 22
/-- what is to be known of one trial -/
def tcOK (n : Nat) (A : Nat → pI) (cls : Nat → Int) (cnt : Nat) (cf : Tr → Nat) (t : Tr) : Prop := t.1 ≤ 1 → ∃ k, k < n ∧ t.2.2.1 = (A k).1 ∧ t.2.2.2.1 = (A k).2 ∧ cls k = (cf t : Int) ∧ cf t < cnt
def hitC (L : List Tr) (cf : Tr → Nat) (i k : Nat) : Prop := ∃ (j : Nat) (t : Tr), j < i ∧ L[j]? = some t ∧ t.1 ≤ 1 ∧ cf t = k
def isTc (h : mj_H) (ts : List Nat) : Prop := hI h 1 22 = jI ts.length ∧ ∀ i t, ts[i]? = some t → hI h 131 i = jI (t : Nat)
def isTb (h : mj_H) (cnt : Nat) (p : Nat → Prop) : Prop := ∀ k, k < cnt → (p k → hI h 130 k = jI 1) ∧ (¬ p k → hI h 130 k = jI 0)
theorem isTb.congr {h : mj_H} {cnt : Nat} {p q : Nat → Prop} (a : isTb h cnt p) (e : ∀ k, p k ↔ q k) : isTb h cnt q := fun k hk => ⟨fun z => (a k hk).1 ((e k).2 z), fun z => (a k hk).2 (fun y => z ((e k).1 y))⟩
theorem isTb.put {h : mj_H} {cnt : Nat} {p : Nat → Prop} (a : isTb h cnt p) (c : Nat) : isTb (sI h 130 c (jI 1)) cnt (fun k => p k ∨ k = c) := by
  intro k hk
  by_cases e : k = c
  · subst e
    exact ⟨fun _ => sI_at _ _ _ _, fun z => absurd (Or.inr rfl) z⟩
  · rw [sI_k _ _ e]
    exact ⟨fun z => (a k hk).1 (z.resolve_right e), fun z => (a k hk).2 (fun y => z (Or.inl y))⟩
theorem isTb.F {S T : Nat → Prop} {h h' : mj_H} (f : Fr S T h h') {cnt : Nat} {p : Nat → Prop} (a : isTb h cnt p) (hs : ¬ S 130) : isTb h' cnt p := fun k hk => by
  rw [f.I hs k]
  exact a k hk
theorem hitC_s {L : List Tr} {cf : Tr → Nat} {i : Nat} {t : Tr} (ht : L[i]? = some t) (k : Nat) : hitC L cf (i + 1) k ↔ hitC L cf i k ∨ (t.1 ≤ 1 ∧ k = cf t) := by
  constructor
  · rintro ⟨j, s, h1, h2, h3, h4⟩
    by_cases e : j = i
    · subst e
      rw [ht] at h2
      cases h2
      exact Or.inr ⟨h3, h4.symm⟩
    · exact Or.inl ⟨j, s, by omega, h2, h3, h4⟩
  · rintro (⟨j, s, h1, h2, h3, h4⟩ | ⟨h1, h2⟩)
    · exact ⟨j, s, by omega, h2, h3, h4⟩
    · exact ⟨i, t, by omega, ht, h1, h2.symm⟩
abbrev l175 (n : Int) (x2 x3 x4 x5 x6 : Option Value) : mj_Ls := [some (.ref 1), some (.int (jI n)), x2, x3, x4, x5, x6]
section
variable {d w : Int} {N : Nat} {A : Nat → pI} {nxt : Nat → Nat} {cls : Nat → Int} {cnt : Nat} {nm : Nat → Nat}
/-- FormHouse.tellers(I)I; cuts at [7, 9, 20, 33, 48, 50, 61, 77, 86, 87, 96, 98, 130, 147, 153, 158, 160, 171, 183, 194, 204] -/
def cl_175_4 : List mj_E := (184, false, .getfield 117, 3, 0, 21, 2, 0, 0) ::
  (187, false, .aload_n 0, 1, 0, 0, 0, 0, 0) ::
  (188, false, .getfield 146, 3, 0, 22, 0, 0, 0) ::
  (191, false, .iload_n 2, 1, 0, 0, 0, 0, 0) ::
  (192, false, .i2s, 1, 0, 0, 0, 0, 0) ::
  (193, false, .sastore, 1, 0, 0, 0, 0, 0) ::
  (194, true, .aload_n 0, 1, 0, 0, 0, 0, 0) ::
  (195, false, .dup, 1, 0, 0, 0, 0, 0) ::
  (196, false, .getfield 146, 3, 0, 22, 0, 0, 0) ::
  (199, false, .iconst 1, 1, 0, 0, 0, jI 1, 0) ::
  (200, false, .iadd, 1, 0, 0, 0, 0, 0) ::
  (201, false, .putfield 146, 3, 0, 22, 0, 0, 0) ::
  (204, true, .iinc 2 1, 3, 0, 0, 0, jI 1, 0) ::
  (207, false, .goto (-47), 3, 84, 0, 0, 0, 0) ::
  (210, false, .aload_n 0, 1, 0, 0, 0, 0, 0) ::
  (211, false, .getfield 146, 3, 0, 22, 0, 0, 0) ::
  (214, false, .ireturn, 1, 0, 0, 0, 0, 0) ::
  []
def cl_175_3 : List mj_E := (138, false, .aload_n 0, 1, 0, 0, 0, 0, 0) ::
  (139, false, .getfield 94, 3, 0, 13, 2, 0, 0) ::
  (142, false, .invokevirtual 280, 3, 75, 1, 7, 0, 0) ::
  (145, false, .iconst 1, 1, 0, 0, 0, jI 1, 0) ::
  (146, false, .bastore, 1, 0, 0, 0, 0, 0) ::
  (147, true, .iinc 2 1, 3, 0, 0, 0, jI 1, 0) ::
  (150, false, .goto (-100), 3, 26, 0, 0, 0, 0) ::
  (153, true, .aload_n 0, 1, 0, 0, 0, 0, 0) ::
  (154, false, .iconst 0, 1, 0, 0, 0, jI 0, 0) ::
  (155, false, .putfield 146, 3, 0, 22, 0, 0, 0) ::
  (158, true, .iconst 0, 1, 0, 0, 0, jI 0, 0) ::
  (159, false, .istore_n 2, 1, 0, 0, 0, 0, 0) ::
  (160, true, .iload_n 2, 1, 0, 0, 0, 0, 0) ::
  (161, false, .aload_n 0, 1, 0, 0, 0, 0, 0) ::
  (162, false, .getfield 37, 3, 0, 1, 2, 0, 0) ::
  (165, false, .getfield 170, 3, 7, 5, 0, 0, 0) ::
  (168, false, .if_icmp .ge 42, 3, 110, 0, 0, 0, 0) ::
  (171, true, .aload_n 0, 1, 0, 0, 0, 0, 0) ::
  (172, false, .getfield 113, 3, 0, 20, 2, 0, 0) ::
  (175, false, .iload_n 2, 1, 0, 0, 0, 0, 0) ::
  (176, false, .baload, 1, 0, 0, 0, 0, 0) ::
  (177, false, .ifCond .ne 6, 3, 95, 0, 0, 0, 0) ::
  (180, false, .goto 24, 3, 108, 0, 0, 0, 0) ::
  (183, true, .aload_n 0, 1, 0, 0, 0, 0, 0) ::
  cl_175_4
def cl_175_2 : List mj_E := (94, false, .iload_n 2, 1, 0, 0, 0, 0, 0) ::
  (95, false, .laload, 1, 0, 0, 0, 0, 0) ::
  (96, true, .lstore 5, 2, 0, 0, 0, 0, 0) ::
  (98, true, .aload_n 0, 1, 0, 0, 0, 0, 0) ::
  (99, false, .getfield 94, 3, 0, 13, 2, 0, 0) ::
  (102, false, .lload_n 3, 1, 0, 0, 0, 0, 0) ::
  (103, false, .lload 5, 2, 0, 0, 0, 0, 0) ::
  (105, false, .lload 5, 2, 0, 0, 0, 0, 0) ::
  (107, false, .lload 5, 2, 0, 0, 0, 0, 0) ::
  (109, false, .lmul, 1, 0, 0, 0, 0, 0) ::
  (110, false, .aload_n 0, 1, 0, 0, 0, 0, 0) ::
  (111, false, .getfield 24, 3, 0, 0, 2, 0, 0) ::
  (114, false, .getfield 30, 3, 1, 1, 2, 0, 0) ::
  (117, false, .getfield 173, 3, 3, 0, 1, 0, 0) ::
  (120, false, .lsub, 1, 0, 0, 0, 0, 0) ::
  (121, false, .ldc2_w 153, 3, 0, 0, 0, 0, jL 4) ::
  (124, false, .lload_n 3, 1, 0, 0, 0, 0, 0) ::
  (125, false, .lmul, 1, 0, 0, 0, 0, 0) ::
  (126, false, .ldiv, 1, 0, 0, 0, 0, 0) ::
  (127, false, .invokevirtual 155, 3, 24, 3, 6, 0, 0) ::
  (130, true, .aload_n 0, 1, 0, 0, 0, 0, 0) ::
  (131, false, .getfield 113, 3, 0, 20, 2, 0, 0) ::
  (134, false, .aload_n 0, 1, 0, 0, 0, 0, 0) ::
  (135, false, .getfield 37, 3, 0, 1, 2, 0, 0) ::
  cl_175_3
def cl_175_1 : List mj_E := (48, true, .iconst 0, 1, 0, 0, 0, jI 0, 0) ::
  (49, false, .istore_n 2, 1, 0, 0, 0, 0, 0) ::
  (50, true, .iload_n 2, 1, 0, 0, 0, 0, 0) ::
  (51, false, .aload_n 0, 1, 0, 0, 0, 0, 0) ::
  (52, false, .getfield 63, 3, 0, 4, 2, 0, 0) ::
  (55, false, .getfield 343, 3, 12, 3, 0, 0, 0) ::
  (58, false, .if_icmp .ge 95, 3, 79, 0, 0, 0, 0) ::
  (61, true, .aload_n 0, 1, 0, 0, 0, 0, 0) ::
  (62, false, .getfield 63, 3, 0, 4, 2, 0, 0) ::
  (65, false, .getfield 348, 3, 12, 4, 2, 0, 0) ::
  (68, false, .iload_n 2, 1, 0, 0, 0, 0, 0) ::
  (69, false, .iaload, 1, 0, 0, 0, 0, 0) ::
  (70, false, .iconst 1, 1, 0, 0, 0, jI 1, 0) ::
  (71, false, .if_icmp .le 6, 3, 39, 0, 0, 0, 0) ::
  (74, false, .goto 73, 3, 77, 0, 0, 0, 0) ::
  (77, true, .aload_n 0, 1, 0, 0, 0, 0, 0) ::
  (78, false, .getfield 63, 3, 0, 4, 2, 0, 0) ::
  (81, false, .getfield 369, 3, 12, 6, 2, 0, 0) ::
  (84, false, .iload_n 2, 1, 0, 0, 0, 0, 0) ::
  (85, false, .laload, 1, 0, 0, 0, 0, 0) ::
  (86, true, .lstore_n 3, 1, 0, 0, 0, 0, 0) ::
  (87, true, .aload_n 0, 1, 0, 0, 0, 0, 0) ::
  (88, false, .getfield 63, 3, 0, 4, 2, 0, 0) ::
  (91, false, .getfield 372, 3, 12, 7, 2, 0, 0) ::
  cl_175_2
def cl_175_0 : List mj_E := (0, false, .iload_n 1, 1, 0, 0, 0, 0, 0) ::
  (1, false, .invokestatic 309, 3, 138, 1, 0, 0, 0) ::
  (4, false, .invokestatic 166, 3, 100, 1, 0, 0, 0) ::
  (7, true, .iconst 0, 1, 0, 0, 0, jI 0, 0) ::
  (8, false, .istore_n 2, 1, 0, 0, 0, 0, 0) ::
  (9, true, .iload_n 2, 1, 0, 0, 0, 0, 0) ::
  (10, false, .aload_n 0, 1, 0, 0, 0, 0, 0) ::
  (11, false, .getfield 37, 3, 0, 1, 2, 0, 0) ::
  (14, false, .getfield 170, 3, 7, 5, 0, 0, 0) ::
  (17, false, .if_icmp .ge 16, 3, 17, 0, 0, 0, 0) ::
  (20, true, .aload_n 0, 1, 0, 0, 0, 0, 0) ::
  (21, false, .getfield 113, 3, 0, 20, 2, 0, 0) ::
  (24, false, .iload_n 2, 1, 0, 0, 0, 0, 0) ::
  (25, false, .iconst 0, 1, 0, 0, 0, jI 0, 0) ::
  (26, false, .bastore, 1, 0, 0, 0, 0, 0) ::
  (27, false, .iinc 2 1, 3, 0, 0, 0, jI 1, 0) ::
  (30, false, .goto (-21), 3, 5, 0, 0, 0, 0) ::
  (33, true, .aload_n 0, 1, 0, 0, 0, 0, 0) ::
  (34, false, .getfield 63, 3, 0, 4, 2, 0, 0) ::
  (37, false, .iload_n 1, 1, 0, 0, 0, 0, 0) ::
  (38, false, .aload_n 0, 1, 0, 0, 0, 0, 0) ::
  (39, false, .getfield 24, 3, 0, 0, 2, 0, 0) ::
  (42, false, .getfield 30, 3, 1, 1, 2, 0, 0) ::
  (45, false, .invokevirtual 312, 3, 139, 2, 12, 0, 0) ::
  cl_175_1
def cd_175 : List mj_E := cl_175_0
def cx_175 : mj_X := (1, [], [])
theorem tb_175 : mj_tab (mj_mt 175) cx_175 cd_175 mj_mh [(0, 0, 0), (5224, 0, 0), (5051, 0, 0), (0, 0, 0), (0, 0, 0), (0, 0, 0), (0, 0, 0), (4204, 0, 0), (2001, 0, 0), (0, 0, 0), (0, 0, 0), (4223, 0, 0), (0, 0, 0), (0, 0, 0), (0, 0, 0), (0, 0, 0), (0, 0, 0), (0, 0, 0), (4207, 0, 0), (0, 0, 0), (0, 0, 0), (4203, 0, 0), (1192, 0, 0), (5229, 0, 0), (0, 0, 0), (0, 0, 0), (0, 0, 0), (0, 0, 0), (4207, 0, 0), (2195, 0, 0), (0, 0, 0), (0, 0, 0), (4207, 0, 0), (2197, 0, 0), (0, 0, 0), (0, 0, 0), (0, 0, 0), (0, 0, 0), (0, 0, 0), (0, 0, 0), (4207, 0, 0), (2201, 0, 0), (0, 0, 0), (0, 0, 0), (0, 0, 0), (0, 0, 0), (4207, 0, 0), (2203, 0, 0), (0, 0, 0), (0, 0, 0), (0, 0, 0), (0, 0, 0), (4216, 0, 0), (0, 0, 0), (0, 0, 0), (0, 0, 0), (0, 0, 0), (0, 0, 0), (0, 0, 0), (4203, 0, 0), (1192, 0, 0), (1076, 0, 0), (0, 0, 0), (4180, 0, 0), (0, 0, 0), (0, 0, 0), (0, 0, 0), (4181, 0, 0), (0, 0, 0), (4223, 0, 0), (0, 0, 0), (4204, 0, 0), (0, 0, 0), (4216, 0, 0), (4189, 0, 0), (0, 0, 0), (0, 0, 0), (0, 0, 0), (0, 0, 0), (0, 0, 0), (0, 0, 0), (4225, 0, 0), (0, 0, 0), (0, 0, 0), (0, 0, 0), (0, 0, 0), (4204, 0, 0), (2001, 0, 0), (0, 0, 0), (0, 0, 0), (4223, 0, 0), (0, 0, 0), (0, 0, 0), (0, 0, 0), (0, 0, 0), (0, 0, 0), (4224, 0, 0), (0, 0, 0), (4225, 0, 0), (0, 0, 0), (0, 0, 0), (0, 0, 0), (0, 0, 0), (0, 0, 0), (4225, 0, 0), (0, 0, 0), (0, 0, 0), (4225, 0, 0), (0, 0, 0), (0, 0, 0), (0, 0, 0), (4225, 0, 0), (0, 0, 0)] = true := mj_tab_f (by decide +kernel)
theorem ct_175 (G : mj_G) {h : mj_H} (L : isLay h) (T : isTF d w N A nxt cls cnt nm) (hT : isTB h d w N A cls cnt nm) {ra rb : Nat} (hrt : isRt h ra rb) {n : Int} (hn : -2147483648 ≤ n ∧ n < 2147483648) (hok : inQ n → okT d w n) {cf : Tr → Nat} (htc : inQ n → ∀ t, t ∈ tAll d w n → tcOK N A cls cnt cf t) (htb : inQ n → ∀ t, t ∈ tAll d w n → -2147483648 ≤ t.1 ∧ t.1 < 2147483648) : mj_Ct G (mj_mt 175) 1 6 [.ref 1, .int (jI n)] h (fun o h' => (¬ inQ n → jE 80 h o h') ∧ (inQ n → o = .returned (some (.int (jI (teL (hitC (tAll d w n) cf (tAll d w n).length) cnt).length))) ∧ isTc h' (teL (hitC (tAll d w n) cf (tAll d w n).length) cnt) ∧ own1 i22 h h' ∧ (∃ a b, isRt h' a b) ∧ Fr sTl is73 h h')) := by
  obtain ⟨⟨hnsq, hdd, hd, hw, hnb, hcnt, hS, hx⟩, hv, -, -, -, -, -, -⟩ := id T
  obtain ⟨tl, htl⟩ : ∃ tl, tl = tAll d w n := ⟨_, rfl⟩
  rw [← htl] at htc htb ⊢
  obtain ⟨pp, hpp⟩ : ∃ pp, pp = hitC tl cf tl.length := ⟨_, rfl⟩
  rw [← hpp]
  have hlen := teL_len pp cnt
  have ly : ∀ {h' : mj_H}, Fr sTl is73 h h' → isLay h' := fun F => L.F F (fun a z => by omega)
  have tb : ∀ {h' : mj_H}, Fr sTl is73 h h' → isTB h' d w N A cls cnt nm := fun F => hT.F F (fun x z => by omega)
  have h5 : ∀ {h' : mj_H}, Fr sTl is73 h h' → hI h' 46 5 = jI cnt := fun F => (tb F).2.1.1
  have nat : ∀ {k : Nat}, k < 262144 → (jI (k : Int)).toNatClampNeg = k := by
    intro k hk
    rw [jI_nat (by omega) (by omega), Int.toNat_natCast]
  have vin : ∀ {k X M : Nat}, X = M → k < M → M ≤ 262144 → vp_in (jI (k : Int)) X := by
    rintro k X M rfl hk hM
    exact jI_in (by omega) (by omega) (by omega)
  refine mj_Ct_of mj_ok tb_175 rfl rfl (Nat.le_of_ble_eq_true rfl) (fun Run hR => ?_)
  by_cases hq : inQ n
  · have r160 : ∀ (p i : Nat) (iI : Int32) (h' : mj_H) (x3 x4 x5 x6 : Option Value), i + p = cnt → isTb h' cnt pp → isTc h' (teL pp i) → own1 i22 h h' → (∃ a b, isRt h' a b) → Fr sTl is73 h h' → iI = jI i → Run 160 (l175 n (some (.int iI)) x3 x4 x5 x6) [] h' (1, 6) := by
      intro p
      induction p with
      | zero =>
        rintro i iI h' x3 x4 x5 x6 hi ts te ow rt F rfl
        have ei : i = cnt := by omega
        subst ei
        have L' := ly F
        refine hR 60 84 _ _ _ _ _ _ rfl ?_
        refine ⟨L'.K 1 rfl, _, L'.R 1 1 _ rfl, L'.K 46 rfl, fun c => ⟨L'.K 1 rfl, fun z => absurd hq z, fun _ => ⟨?_, te, ow, rt, F⟩⟩, fun c => ?_⟩
        · rw [te.1]
        · rw [h5 F] at c
          simp (disch := omega) only [mj_lcm, jI_lt, jI_le, jI_eq, jL_lt, jL_le, jL_eq, jI_lt0, jI_0le, jI_0lt, jI_le0, jI_eq0, jL_eq0, jI_L, jI_add, jI_sub, jI_mul, jI_neg, jL_add, jL_sub, jL_mul, jL_neg, jL_I, jI_div, jI_mod, jL_div, jL_mod] at c
          omega
      | succ p ih =>
        rintro i iI h' x3 x4 x5 x6 hi ts te ow rt F rfl
        have L' := ly F
        have hli := teL_len pp i
        have r204 : ∀ (h4 : mj_H) (x3 x4 x5 x6 : Option Value), isTb h4 cnt pp → isTc h4 (teL pp (i + 1)) → own1 i22 h h4 → (∃ a b, isRt h4 a b) → Fr sTl is73 h h4 → Run 204 (l175 n (some (.int (jI i))) x3 x4 x5 x6) [] h4 (1, 6) := by
          intro h4 x3 x4 x5 x6 ts4 te4 ow4 rt4 F4
          refine hR 60 108 _ _ _ _ _ _ rfl ?_
          exact ih (i + 1) _ h4 _ _ _ _ (by omega) ts4 te4 ow4 rt4 F4 (by rw [jI_add]; rfl)
        have r183 : pp i → ∀ (x3 x4 x5 x6 : Option Value), Run 183 (l175 n (some (.int (jI i))) x3 x4 x5 x6) [] h' (1, 6) := by
          intro hpi x3 x4 x5 x6
          have ep := teL_pos hpi
          have r194 : ∀ (x3 x4 x5 x6 : Option Value), Run 194 (l175 n (some (.int (jI i))) x3 x4 x5 x6) [] (sI h' 131 (teL pp i).length (jI (i : Int))) (1, 6) := by
            intro x3 x4 x5 x6
            have e22 : hI (sI h' 131 (teL pp i).length (jI (i : Int))) 1 22 = jI (teL pp i).length := te.1
            refine hR 60 102 _ _ _ _ _ _ rfl ?_
            refine ⟨L'.K 1 rfl, L'.K 1 rfl, ?_⟩
            rw [e22]
            have F4 : Fr sTl is73 h (sI h' 131 (teL pp i).length (jI (i : Int))) := F.sI (by omega) _ _
            refine r204 _ _ _ _ _ ts ⟨?_, fun j t ht => ?_⟩ (own1.put (I := i22) (h := h) (h' := sI h' 131 (teL pp i).length (jI (i : Int))) (fun k hk => ow k hk) rfl _) rt (F4.sI (by omega) _ _)
            · rw [ep, sI_at, jI_add, List.length_append]
              rfl
            · rw [ep] at ht
              by_cases e : j = (teL pp i).length
              · subst e
                rw [List.getElem?_append_right (Nat.le_refl _), Nat.sub_self] at ht
                have h9 : some i = some t := ht
                rw [← Option.some.inj h9]
                exact sI_at h' 131 _ _
              · have hil := lt_of_some ht
                simp only [List.length_append, List.length_cons, List.length_nil] at hil
                rw [List.getElem?_append_left (by omega)] at ht
                exact (sI_k h' 131 e _).trans (te.2 j t ht)
          refine hR 60 95 _ _ _ _ _ _ rfl ?_
          refine ⟨L'.K 1 rfl, _, L'.R 1 21 _ rfl, L'.K 1 rfl, L'.K 131 rfl, ?_, ?_⟩
          · rw [te.1]
            exact vin (M := 4096) (L'.N 130 rfl) (by omega) (by decide)
          · rw [te.1, nat (by omega), jI_s (by omega) (by omega), jI_s (by omega) (by omega)]
            exact r194 _ _ _ _
        have r171 : ∀ (x3 x4 x5 x6 : Option Value), Run 171 (l175 n (some (.int (jI i))) x3 x4 x5 x6) [] h' (1, 6) := by
          intro x3 x4 x5 x6
          have t1 := ts i (by omega)
          refine hR 60 89 _ _ _ _ _ _ rfl ?_
          refine ⟨L'.K 1 rfl, _, L'.R 1 20 _ rfl, L'.K 130 rfl, vin (M := 4096) (L'.N 129 rfl) (by omega) (by decide), fun c => ?_, fun c => ?_⟩
          · rw [nat (by omega)] at c
            have hno : ¬ pp i := fun z => by
              rw [t1.1 z] at c
              exact absurd c (by decide)
            rw [teL_neg hno] at r204
            exact r204 h' _ _ _ _ ts te ow rt F
          · rw [nat (by omega)] at c
            refine r183 (Classical.byContradiction fun z => ?_) _ _ _ _
            rw [t1.2 z] at c
            exact absurd rfl c
        refine hR 60 84 _ _ _ _ _ _ rfl ?_
        refine ⟨L'.K 1 rfl, _, L'.R 1 1 _ rfl, L'.K 46 rfl, fun c => ?_, fun c => r171 _ _ _ _⟩
        rw [h5 F] at c
        simp (disch := omega) only [mj_lcm, jI_lt, jI_le, jI_eq, jL_lt, jL_le, jL_eq, jI_lt0, jI_0le, jI_0lt, jI_le0, jI_eq0, jL_eq0, jI_L, jI_add, jI_sub, jI_mul, jI_neg, jL_add, jL_sub, jL_mul, jL_neg, jL_I, jI_div, jI_mod, jL_div, jL_mod] at c
        omega
    have r153 : ∀ (h' : mj_H) (x2 x3 x4 x5 x6 : Option Value), isTb h' cnt pp → own1 i22 h h' → (∃ a b, isRt h' a b) → Fr sTl is73 h h' → Run 153 (l175 n x2 x3 x4 x5 x6) [] h' (1, 6) := by
      intro h' x2 x3 x4 x5 x6 ts ow rt F
      have r158 : ∀ (x2 x3 x4 x5 x6 : Option Value), Run 158 (l175 n x2 x3 x4 x5 x6) [] (sI h' 1 22 (jI 0)) (1, 6) := by
        intro x2 x3 x4 x5 x6
        refine hR 60 82 _ _ _ _ _ _ rfl ?_
        exact r160 cnt 0 _ _ _ _ _ _ (by omega) ts ⟨sI_at _ _ _ _, fun i t ht => absurd ht (by simp [teL])⟩ (ow.put rfl _) rt (F.sI (by omega) _ _) rfl
      refine hR 60 79 _ _ _ _ _ _ rfl ?_
      exact ⟨(ly F).K 1 rfl, r158 _ _ _ _ _⟩
    have htl2 := htc hq
    have htl3 := htb hq
    have r50 : ∀ (p i : Nat) (iI : Int32) (h' : mj_H) (x3 x4 x5 x6 : Option Value), i + p = tl.length → isTr h' tl (fun _ => false) 0 → isTb h' cnt (hitC tl cf i) → own1 i22 h h' → (∃ a b, isRt h' a b) → Fr sTl is73 h h' → iI = jI i → Run 50 (l175 n (some (.int iI)) x3 x4 x5 x6) [] h' (1, 6) := by
      intro p
      induction p with
      | zero =>
        rintro i iI h' x3 x4 x5 x6 hi tr ts ow rt F rfl
        have L' := ly F
        have hlb := tr.2.1
        have e : hitC tl cf i = pp := by
          rw [hpp]
          congr 1
        rw [e] at ts
        refine hR 60 26 _ _ _ _ _ _ rfl ?_
        refine ⟨L'.K 1 rfl, _, L'.R 1 4 _ rfl, L'.K 69 rfl, fun c => r153 h' _ _ _ _ _ ts ow rt F, fun c => ?_⟩
        rw [tr.1] at c
        simp (disch := omega) only [mj_lcm, jI_lt, jI_le, jI_eq, jL_lt, jL_le, jL_eq, jI_lt0, jI_0le, jI_0lt, jI_le0, jI_eq0, jL_eq0, jI_L, jI_add, jI_sub, jI_mul, jI_neg, jL_add, jL_sub, jL_mul, jL_neg, jL_I, jI_div, jI_mod, jL_div, jL_mod] at c
        omega
      | succ p ih =>
        rintro i iI h' x3 x4 x5 x6 hi tr ts ow rt F rfl
        have L' := ly F
        have hlb := tr.2.1
        obtain ⟨t, ht⟩ : ∃ t, tl[i]? = some t := ⟨tl[i]'(by omega), List.getElem?_eq_getElem (by omega)⟩
        have hmem := List.mem_of_getElem? ht
        obtain ⟨⟨b1, b2, b3⟩, b4, b5, b6, b7⟩ := tr.2.2.2 i t ht
        have htb1 := htl3 t hmem
        have r147 : ∀ (h4 : mj_H) (x3 x4 x5 x6 : Option Value), isTr h4 tl (fun _ => false) 0 → isTb h4 cnt (hitC tl cf (i + 1)) → own1 i22 h h4 → (∃ a b, isRt h4 a b) → Fr sTl is73 h h4 → Run 147 (l175 n (some (.int (jI i))) x3 x4 x5 x6) [] h4 (1, 6) := by
          intro h4 x3 x4 x5 x6 tr4 ts4 ow4 rt4 F4
          refine hR 60 77 _ _ _ _ _ _ rfl ?_
          exact ih (i + 1) _ h4 _ _ _ _ (by omega) tr4 ts4 ow4 rt4 F4 (by rw [jI_add]; rfl)
        have r77 : t.1 ≤ 1 → ∀ (x3 x4 x5 x6 : Option Value), Run 77 (l175 n (some (.int (jI i))) x3 x4 x5 x6) [] h' (1, 6) := by
          intro h1 x3 x4 x5 x6
          obtain ⟨k, hk, k1, k2, k3, k4⟩ := htl2 t hmem h1
          obtain ⟨-, v2, v3, v4⟩ := hv k hk
          obtain ⟨a, ha⟩ : ∃ a, a = t.2.2.1 := ⟨_, rfl⟩
          obtain ⟨b, hb⟩ : ∃ b, b = t.2.2.2.1 := ⟨_, rfl⟩
          rw [← ha] at b4 k1
          rw [← hb] at b5 k2
          have ha0 : a ≠ 0 := by
            rw [k1]
            exact (T.1.2.2.2.2.2.2.2 k hk).2.1
          have hbb := mbd (a := b) (b := b) (A := 1024) (B := 1024) (by omega) (by omega)
          have eF : (a, b, (b * b - d).tdiv (4 * a)) = fmP d (A k) := by
            rw [k1, k2]
            rfl
          have r130 : ∀ (h4 : mj_H) (x3 x4 x5 x6 : Option Value), isFm h4 113 (fmP d (A k)) → isTr h4 tl (fun _ => false) 0 → isTb h4 cnt (hitC tl cf i) → own1 i22 h h4 → (∃ a b, isRt h4 a b) → Fr sTl is73 h h4 → Run 130 (l175 n (some (.int (jI i))) x3 x4 x5 x6) [] h4 (1, 6) := by
            intro h4 x3 x4 x5 x6 g4 tr4 ts4 ow4 rt4 F4
            have L4 := ly F4
            have T4 := tb F4
            have c75 := ct_75 G L4 T4.1 hS T4.2.2 (by omega) hw T4.2.1 (f := 113) (m := 0) (k := k) g4 (by decide) ⟨tf_ok T hk, v2⟩ (by decide) hk rfl rfl
            refine hR 60 68 _ _ _ _ _ _ rfl ?_
            refine ⟨L4.K 1 rfl, _, L4.R 1 20 _ rfl, L4.K 1 rfl, _, L4.R 1 1 _ rfl, L4.K 1 rfl, _, L4.R 1 13 _ rfl, L4.K 46 rfl, jcallP c75 ?_⟩
            rintro o h5 ⟨rfl, rfl⟩
            have F5 : Fr (fun a => a = 113) noT h4 (sFm h4 113 (itF d w 0 (fmP d (A k)))) := (Fr.refl (fun a => a = 113) noT h4).sFm rfl _
            rw [k3]
            obtain ⟨ra', rb', rt5⟩ := rt4
            have rt5' : isRt (sFm h4 113 (itF d w 0 (fmP d (A k)))) ra' rb' := rt5
            generalize sFm h4 113 (itF d w 0 (fmP d (A k))) = h5 at F5 rt5'
            have L5 := L4.F F5 (fun _ z => z.elim)
            refine ⟨L5.K 130 rfl, vin (M := 4096) (L5.N 129 rfl) (by omega) (by decide), ?_⟩
            rw [nat (by omega)]
            have F6 : Fr (fun a => a = 130) noT h5 (sI h5 130 (cf t) (jI 1)) := (Fr.refl (fun a => a = 130) noT h5).sI rfl _ _
            refine r147 (sI h5 130 (cf t) (jI 1)) _ _ _ _ ((tr4.F F5 (fun x z => by omega)).F F6 (fun x z => by omega)) (((ts4.F F5 (by decide)).put (cf t)).congr (fun q => ?_)) ((ow4.of F5 (by decide)).of F6 (by decide)) ⟨ra', rb', rt5'⟩ ((F4.trans (F5.mono (fun a z => by omega) (fun _ z => z.elim))).trans (F6.mono (fun a z => by omega) (fun _ z => z.elim)))
            rw [hitC_s ht]
            exact ⟨fun z => z.elim Or.inl (fun e => Or.inr ⟨h1, e⟩), fun z => z.elim Or.inl (fun e => Or.inr e.2)⟩
          have r98 : Run 98 (l175 n (some (.int (jI i))) (some (.long (jL a))) none (some (.long (jL b))) none) [] h' (1, 6) := by
            have er : hJ h' 7 0 = jL d := (tb F).2.2.2.1
            have ed : (jL b * jL b - hJ h' 7 0) / (jL 4 * jL a) = jL ((b * b - d).tdiv (4 * a)) := by
              rw [er, jL_mul, jL_mul, jL_sub, jL_div (by omega) (by omega) (by omega) (by omega)]
            have c24 := ct_24 G (L'.K 113 rfl) (jL a) (jL b) (jL ((b * b - d).tdiv (4 * a)))
            rw [← ed] at c24
            refine hR 60 51 _ _ _ _ _ _ rfl ?_
            refine ⟨L'.K 1 rfl, _, L'.R 1 13 _ rfl, L'.K 1 rfl, _, L'.R 1 0 _ rfl, L'.K 2 rfl, _, L'.R 2 1 _ rfl, L'.K 7 rfl, ?_, L'.K 113 rfl, jcallV c24 ?_⟩
            · show ¬ jL 4 * jL a = jL 0
              rw [jL_mul, jL_eq (by omega) (by omega) (by omega) (by omega)]
              omega
            · rw [ed]
              have g4 := isFm_sFm h' (L'.K 113 rfl) (a, b, (b * b - d).tdiv (4 * a))
              have F4 : Fr (fun a => a = 113) noT h' (sFm h' 113 (a, b, (b * b - d).tdiv (4 * a))) := (Fr.refl (fun a => a = 113) noT h').sFm rfl _
              obtain ⟨ra', rb', rt5⟩ := rt
              exact r130 (sFm h' 113 (a, b, (b * b - d).tdiv (4 * a))) _ _ _ _ (eF ▸ g4) (tr.F F4 (fun x z => by omega)) (ts.F F4 (by decide)) (ow.of F4 (by decide)) ⟨ra', rb', rt5⟩ (F.trans (F4.mono (fun a z => by omega) (fun _ z => z.elim)))
          have r96 : ∀ (bL : Int64) (x5 x6 : Option Value), bL = jL b → Run 96 (l175 n (some (.int (jI i))) (some (.long (jL a))) none x5 x6) [.long bL] h' (1, 6) := by
            rintro bL x5 x6 rfl
            refine hR 60 50 _ _ _ _ _ _ rfl ?_
            exact r98
          have r87 : ∀ (x5 x6 : Option Value), Run 87 (l175 n (some (.int (jI i))) (some (.long (jL a))) none x5 x6) [] h' (1, 6) := by
            intro x5 x6
            refine hR 60 45 _ _ _ _ _ _ rfl ?_
            refine ⟨L'.K 1 rfl, _, L'.R 1 4 _ rfl, L'.K 69 rfl, _, L'.R 69 7 _ rfl, L'.K 81 rfl, vin (M := 8192) (L'.N 80 rfl) (by omega) (by decide), ?_⟩
            exact r96 _ _ _ (by rw [nat (by omega)]; exact b5)
          have r86 : ∀ (aL : Int64) (x3 x4 x5 x6 : Option Value), aL = jL a → Run 86 (l175 n (some (.int (jI i))) x3 x4 x5 x6) [.long aL] h' (1, 6) := by
            rintro aL x3 x4 x5 x6 rfl
            refine hR 60 44 _ _ _ _ _ _ rfl ?_
            exact r87 _ _
          refine hR 60 39 _ _ _ _ _ _ rfl ?_
          refine ⟨L'.K 1 rfl, _, L'.R 1 4 _ rfl, L'.K 69 rfl, _, L'.R 69 6 _ rfl, L'.K 80 rfl, vin (M := 8192) (L'.N 79 rfl) (by omega) (by decide), ?_⟩
          exact r86 _ _ _ _ _ (by rw [nat (by omega)]; exact b4)
        have r61 : ∀ (x3 x4 x5 x6 : Option Value), Run 61 (l175 n (some (.int (jI i))) x3 x4 x5 x6) [] h' (1, 6) := by
          intro x3 x4 x5 x6
          refine hR 60 31 _ _ _ _ _ _ rfl ?_
          refine ⟨L'.K 1 rfl, _, L'.R 1 4 _ rfl, L'.K 69 rfl, _, L'.R 69 4 _ rfl, Or.inl (L'.K 78 rfl), vin (M := 8192) (L'.N 77 rfl) (by omega) (by decide), fun c => ?_, fun c => ?_⟩
          · rw [nat (by omega), b1] at c
            simp (disch := omega) only [mj_lcm, jI_lt, jI_le, jI_eq, jL_lt, jL_le, jL_eq, jI_lt0, jI_0le, jI_0lt, jI_le0, jI_eq0, jL_eq0, jI_L, jI_add, jI_sub, jI_mul, jI_neg, jL_add, jL_sub, jL_mul, jL_neg, jL_I, jI_div, jI_mod, jL_div, jL_mod] at c
            exact r77 (by omega) _ _ _ _
          · rw [nat (by omega), b1] at c
            simp (disch := omega) only [mj_lcm, jI_lt, jI_le, jI_eq, jL_lt, jL_le, jL_eq, jI_lt0, jI_0le, jI_0lt, jI_le0, jI_eq0, jL_eq0, jI_L, jI_add, jI_sub, jI_mul, jI_neg, jL_add, jL_sub, jL_mul, jL_neg, jL_I, jI_div, jI_mod, jL_div, jL_mod] at c
            refine r147 h' _ _ _ _ tr (ts.congr (fun q => ?_)) ow rt F
            rw [hitC_s ht]
            exact ⟨Or.inl, fun z => z.elim id (fun e => absurd e.1 (by omega))⟩
        refine hR 60 26 _ _ _ _ _ _ rfl ?_
        refine ⟨L'.K 1 rfl, _, L'.R 1 4 _ rfl, L'.K 69 rfl, fun c => ?_, fun c => r61 _ _ _ _⟩
        rw [tr.1] at c
        simp (disch := omega) only [mj_lcm, jI_lt, jI_le, jI_eq, jL_lt, jL_le, jL_eq, jI_lt0, jI_0le, jI_0lt, jI_le0, jI_eq0, jL_eq0, jI_L, jI_add, jI_sub, jI_mul, jI_neg, jL_add, jL_sub, jL_mul, jL_neg, jL_I, jI_div, jI_mod, jL_div, jL_mod] at c
        omega
    have r33 : ∀ (h' : mj_H) (x2 x3 x4 x5 x6 : Option Value), isTb h' cnt (fun _ => False) → own1 i22 h h' → isRt h' ra rb → Fr sTl is73 h h' → Run 33 (l175 n x2 x3 x4 x5 x6) [] h' (1, 6) := by
      intro h' x2 x3 x4 x5 x6 ts ow rt F
      have L' := ly F
      have c139 := ct_139 G L' (tb F).2.2 (by omega) hw rt hq.1 (by have := hq.2; omega) (hok hq)
      rw [← htl] at c139
      have r48 : ∀ (h4 : mj_H) (x2 x3 x4 x5 x6 : Option Value), isTr h4 tl (fun _ => false) 0 → isTb h4 cnt (fun _ => False) → own1 i22 h h4 → (∃ a b, isRt h4 a b) → Fr sTl is73 h h4 → Run 48 (l175 n x2 x3 x4 x5 x6) [] h4 (1, 6) := by
        intro h4 x2 x3 x4 x5 x6 tr4 ts4 ow4 rt4 F4
        refine hR 60 24 _ _ _ _ _ _ rfl ?_
        exact r50 tl.length 0 _ h4 _ _ _ _ (by omega) tr4 (ts4.congr (fun q => ⟨fun z => z.elim, fun ⟨j, t, h1, _⟩ => absurd h1 (by omega)⟩)) ow4 rt4 F4 rfl
      refine hR 60 17 _ _ _ _ _ _ rfl ?_
      refine ⟨L'.K 1 rfl, _, L'.R 1 4 _ rfl, L'.K 1 rfl, _, L'.R 1 0 _ rfl, L'.K 2 rfl, _, L'.R 2 1 _ rfl, L'.K 69 rfl, jcallP c139 ?_⟩
      rintro o h4 ⟨rfl, tr4, rt4, F4⟩
      exact r48 h4 _ _ _ _ _ tr4 (ts.F F4 (by omega)) (ow.of F4 (by omega)) rt4 (F.trans (F4.mono (fun a z => by omega) (fun _ z => z)))
    have r9 : ∀ (p i : Nat) (iI : Int32) (h' : mj_H) (x3 x4 x5 x6 : Option Value), i + p = cnt → (∀ j, j < i → hI h' 130 j = jI 0) → own1 i22 h h' → isRt h' ra rb → Fr sTl is73 h h' → iI = jI i → Run 9 (l175 n (some (.int iI)) x3 x4 x5 x6) [] h' (1, 6) := by
      intro p
      induction p with
      | zero =>
        rintro i iI h' x3 x4 x5 x6 hi ts ow rt F rfl
        have L' := ly F
        refine hR 60 5 _ _ _ _ _ _ rfl ?_
        refine ⟨L'.K 1 rfl, _, L'.R 1 1 _ rfl, L'.K 46 rfl, fun c => r33 h' _ _ _ _ _ (fun j hj => ⟨fun z => z.elim, fun _ => ts j (by omega)⟩) ow rt F, fun c => ?_⟩
        rw [h5 F] at c
        simp (disch := omega) only [mj_lcm, jI_lt, jI_le, jI_eq, jL_lt, jL_le, jL_eq, jI_lt0, jI_0le, jI_0lt, jI_le0, jI_eq0, jL_eq0, jI_L, jI_add, jI_sub, jI_mul, jI_neg, jL_add, jL_sub, jL_mul, jL_neg, jL_I, jI_div, jI_mod, jL_div, jL_mod] at c
        omega
      | succ p ih =>
        rintro i iI h' x3 x4 x5 x6 hi ts ow rt F rfl
        have L' := ly F
        have r20 : ∀ (x3 x4 x5 x6 : Option Value), Run 20 (l175 n (some (.int (jI i))) x3 x4 x5 x6) [] h' (1, 6) := by
          intro x3 x4 x5 x6
          refine hR 60 10 _ _ _ _ _ _ rfl ?_
          refine ⟨L'.K 1 rfl, _, L'.R 1 20 _ rfl, L'.K 130 rfl, vin (M := 4096) (L'.N 129 rfl) (by omega) (by decide), ?_⟩
          rw [nat (by omega)]
          have F6 : Fr (fun a => a = 130) noT h' (sI h' 130 i (jI 0)) := (Fr.refl (fun a => a = 130) noT h').sI rfl _ _
          exact ih (i + 1) _ (sI h' 130 i (jI 0)) _ _ _ _ (by omega) (aI_ext (X := fun _ => jI 0) ts) (ow.of F6 (by decide)) rt (F.trans (F6.mono (fun a z => by omega) (fun _ z => z.elim))) (by rw [jI_add]; rfl)
        refine hR 60 5 _ _ _ _ _ _ rfl ?_
        refine ⟨L'.K 1 rfl, _, L'.R 1 1 _ rfl, L'.K 46 rfl, fun c => ?_, fun c => r20 _ _ _ _⟩
        rw [h5 F] at c
        simp (disch := omega) only [mj_lcm, jI_lt, jI_le, jI_eq, jL_lt, jL_le, jL_eq, jI_lt0, jI_0le, jI_0lt, jI_le0, jI_eq0, jL_eq0, jI_L, jI_add, jI_sub, jI_mul, jI_neg, jL_add, jL_sub, jL_mul, jL_neg, jL_I, jI_div, jI_mod, jL_div, jL_mod] at c
        omega
    have r7 : ∀ (x2 x3 x4 x5 x6 : Option Value), Run 7 (l175 n x2 x3 x4 x5 x6) [] h (1, 6) := by
      intro x2 x3 x4 x5 x6
      refine hR 60 3 _ _ _ _ _ _ rfl ?_
      exact r9 cnt 0 _ h _ _ _ _ (by omega) (fun j hj => by omega) (fun _ _ => rfl) hrt (Fr.refl _ _ h) rfl
    refine hR 60 0 _ _ _ _ _ _ rfl ?_
    refine jcall (ct_138 G hn.1 hn.2 h) ?_
    rw [if_pos ⟨hq.1, hq.2⟩]
    exact jcallV (ct_100a G h) (r7 _ _ _ _ _)
  · refine hR 60 0 _ _ _ _ _ _ rfl ?_
    refine jcall (ct_138 G hn.1 hn.2 h) ?_
    rw [if_neg (fun z => hq ⟨z.1, z.2⟩)]
    exact jcallE (ct_100b G h) ⟨fun _ => jE0 _ _, fun z => absurd z hq⟩
end
