/-! the house: take and ask -/
/-- what is to be known of a discriminant's table -/
def tbP (d w : Int) (n : Nat) (A : Nat → pI) (nxt : Nat → Nat) : Prop := ∃ m : Int, mostP d w m ∧ m ≤ 1024 ∧ (rawL d w m).length = n ∧ n ≤ 40960 ∧ (∀ B, PermN n (aL (rawL d w m)) B → srt n B → ∀ i, i < n → B i = A i) ∧ sst n A ∧ isNx d w n A nxt ∧ ∀ k, k ≤ n → (clSt nxt n k).2.1 ≤ 4096
/-- the principal form -/
def prnF (d : Int) : Fm := (1, d % 2, (d % 2 - d).tdiv 4)
abbrev sBg (a : Nat) : Prop := (1 ≤ a ∧ a ≤ 68) ∨ (98 ≤ a ∧ a ≤ 113) ∨ a = 97
abbrev tBg (a : Nat) : Prop := a = 8 ∨ a = 99
abbrev iBg (k : Nat) : Prop := iSe k ∨ k = 19 ∨ k = 22
section
variable {d w : Int} {n : Nat} {A : Nat → pI} {nxt : Nat → Nat} {cls : Nat → Int} {cnt : Nat} {nm : Nat → Nat}
/-- what the house holds of a discriminant -/
def isHs (T : isTF d w n A nxt cls cnt nm) (ord : Fin cnt → Nat) (st : gS cnt) (ps : List Nat) (t u x6 x7 : Int) (h : mj_H) : Prop := isTB h d w n A cls cnt nm ∧ isGs st h ∧ isGr T ord h ∧ isCh h ps ∧ (isW h 30 t ∧ isW h 32 u ∧ isW h 42 x6 ∧ isW h 44 x7) ∧ isM0 h 8 ∧ isM0 h 99
theorem isCh.F {S T : Nat → Prop} {h h' : mj_H} (f : Fr S T h h') {ps : List Nat} (a : isCh h ps) (h1 : ¬ S 67) (h2 : ¬ S 68) : isCh h' ps := ⟨(f.I h1 _).trans a.1, a.2.1, fun i p hp => (f.I h2 _).trans (a.2.2 i p hp)⟩
/-- FormHouse.begin(J)V; cuts at [8, 15, 22, 30, 35, 40, 43, 44, 60] -/
def cl_18_1 : List mj_E := (44, true, .aload_n 0, 1, 0, 0, 0, 0, 0) ::
  (45, false, .getfield 77, 3, 0, 6, 2, 0, 0) ::
  (48, false, .lconst 1, 1, 0, 0, 0, 0, jL 1) ::
  (49, false, .lload_n 3, 1, 0, 0, 0, 0, 0) ::
  (50, false, .lload_n 3, 1, 0, 0, 0, 0, 0) ::
  (51, false, .lload_n 1, 1, 0, 0, 0, 0, 0) ::
  (52, false, .lsub, 1, 0, 0, 0, 0, 0) ::
  (53, false, .ldc2_w 153, 3, 0, 0, 0, 0, jL 4) ::
  (56, false, .ldiv, 1, 0, 0, 0, 0, 0) ::
  (57, false, .invokevirtual 155, 3, 24, 3, 6, 0, 0) ::
  (60, true, .aload_n 0, 1, 0, 0, 0, 0, 0) ::
  (61, false, .invokevirtual 159, 3, 93, 0, 0, 0, 0) ::
  (64, false, .return_, 1, 0, 0, 0, 0, 0) ::
  []
def cl_18_0 : List mj_E := (0, false, .aload_n 0, 1, 0, 0, 0, 0, 0) ::
  (1, false, .getfield 24, 3, 0, 0, 2, 0, 0) ::
  (4, false, .lload_n 1, 1, 0, 0, 0, 0, 0) ::
  (5, false, .invokevirtual 136, 3, 19, 1, 1, 0, 0) ::
  (8, true, .aload_n 0, 1, 0, 0, 0, 0, 0) ::
  (9, false, .getfield 37, 3, 0, 1, 2, 0, 0) ::
  (12, false, .invokevirtual 139, 3, 62, 0, 7, 0, 0) ::
  (15, true, .aload_n 0, 1, 0, 0, 0, 0, 0) ::
  (16, false, .getfield 49, 3, 0, 2, 2, 0, 0) ::
  (19, false, .invokevirtual 142, 3, 74, 0, 8, 0, 0) ::
  (22, true, .aload_n 0, 1, 0, 0, 0, 0, 0) ::
  (23, false, .getfield 56, 3, 0, 3, 2, 0, 0) ::
  (26, false, .lload_n 1, 1, 0, 0, 0, 0, 0) ::
  (27, false, .invokevirtual 145, 3, 92, 1, 11, 0, 0) ::
  (30, true, .aload_n 0, 1, 0, 0, 0, 0, 0) ::
  (31, false, .iconst 0, 1, 0, 0, 0, jI 0, 0) ::
  (32, false, .putfield 146, 3, 0, 22, 0, 0, 0) ::
  (35, true, .aload_n 0, 1, 0, 0, 0, 0, 0) ::
  (36, false, .iconst 0, 1, 0, 0, 0, jI 0, 0) ::
  (37, false, .putfield 150, 3, 0, 19, 0, 0, 0) ::
  (40, true, .lload_n 1, 1, 0, 0, 0, 0, 0) ::
  (41, false, .lconst 1, 1, 0, 0, 0, 0, jL 1) ::
  (42, false, .land, 1, 0, 0, 0, 0, 0) ::
  (43, true, .lstore_n 3, 1, 0, 0, 0, 0, 0) ::
  cl_18_1
def cd_18 : List mj_E := cl_18_0
def cx_18 : mj_X := (0, [], [])
theorem tb_18 : mj_tab (mj_mt 18) cx_18 cd_18 mj_mh [(0, 0, 0), (4203, 0, 0), (0, 0, 0), (3050, 0, 0), (0, 0, 0), (4204, 0, 0), (4037, 0, 0), (0, 0, 0), (4205, 0, 0), (4091, 0, 0), (0, 0, 0), (4206, 0, 0), (0, 0, 0), (4174, 0, 0), (0, 0, 0), (0, 0, 0), (4225, 0, 0), (0, 0, 0), (0, 0, 0), (4222, 0, 0), (0, 0, 0), (0, 0, 0), (0, 0, 0), (0, 0, 0), (0, 0, 0), (4209, 0, 0), (0, 0, 0), (0, 0, 0), (0, 0, 0), (0, 0, 0), (0, 0, 0), (4180, 0, 0), (0, 0, 0), (4181, 0, 0), (0, 0, 0), (4182, 0, 0), (0, 0, 0)] = true := mj_tab_f (by decide +kernel)
theorem ct_18 (G : mj_G) {h : mj_H} (L : isLay h) (m8 : isM0 h 8) (m99 : isM0 h 99) (hcls : cls = (clSt nxt n n).1) (hcnt : cnt = (clSt nxt n n).2.1) (hnm : nm = (clSt nxt n n).2.2) (T : isTF d w n A nxt cls cnt nm) (htb : tbP d w n A nxt) {t u x6 x7 : Int} (hu : isUn d w t u x6 x7) (hwb : w ≤ 1024) {ord : Fin cnt → Nat} (ho : ∀ x, isOrd (mulC T) (oneC T) x (ord x) ∧ ord x ≤ 4096) {fu : Nat} (hok : gnOK T ord fu (st0 T)) {e c s1 s2 : Nat} (hs : seP d w n A cls cnt nm t u (prnF d) e c s1 s2) : mj_Ct G (mj_mt 18) 0 0 [.ref 1, .long (jL d)] h (fun oc h' => oc = .returned none ∧ (∃ ps, isOP d.natAbs ps ∧ isHs T ord (gnS T ord fu (st0 T)) ps t u x6 x7 h') ∧ isHh h' d w t u (prnF d) e c s1 s2 ∧ (hI h' 1 18 = jI 0 ∧ hI h' 1 19 = jI 0 ∧ hI h' 1 22 = jI 0) ∧ Fr sBg tBg h h') := by
  obtain ⟨⟨hnsq, hdd, hd, hw, hn, hcntb, hS, hx⟩, -, -, -, -, -, -, -⟩ := id T
  obtain ⟨m, q1, q2, q3, q4, q5, q6, q7, q8⟩ := htb
  have hd0 : d ≠ 0 := fun z => hnsq 0 (by rw [z]; rfl)
  have hbb : seB t u (prnF d) := hs.2.1
  have ly : ∀ {h' : mj_H}, Fr sBg tBg h h' → isLay h' := fun F => L.F F (fun a z => by omega)
  refine mj_Ct_of mj_ok tb_18 rfl rfl (Nat.le_of_ble_eq_true rfl) (fun Run hR => ?_)
  have r60 : ∀ (ps : List Nat) (h' : mj_H) (eL : Int64), isOP d.natAbs ps → isHs T ord (gnS T ord fu (st0 T)) ps t u x6 x7 h' → isFm h' 97 (prnF d) → hI h' 1 19 = jI 0 → hI h' 1 22 = jI 0 → Fr sBg tBg h h' → Run 60 [some (.ref 1), some (.long (jL d)), none, some (.long eL), none] [] h' (0, 0) := by
    intro ps h' eL hop ⟨t1, t2, t3, t4, ⟨t5, t6, t7, t8⟩, t9, t10⟩ g97 i19 i22 F
    have L' := ly F
    refine hR 60 34 _ _ _ _ _ _ rfl ?_
    refine ⟨L'.K 1 rfl, jcallP (ct_93 G L' T t1 t5 t6 t10 g97 hs) ?_⟩
    rintro oc h2 ⟨rfl, hh, i18, ow, F2⟩
    exact ⟨rfl, ⟨ps, hop, t1.F F2 (fun x z => by omega), t2.F F2 (fun x z => by omega), t3.F F2 (by omega) (by omega), t4.F F2 (by omega) (by omega), ⟨t5.F F2 (by omega) (by omega) (by omega), t6.F F2 (by omega) (by omega) (by omega), t7.F F2 (by omega) (by omega) (by omega), t8.F F2 (by omega) (by omega) (by omega)⟩, t9.F F2 (fun x _ z => by omega), hh.2.1.z⟩, hh, ⟨i18, (ow 19 (by omega)).trans i19, (ow 22 (by omega)).trans i22⟩, F.trans (F2.mono (fun a z => by omega) (fun a z => by omega))⟩
  have r44 : ∀ (ps : List Nat) (h' : mj_H) (eL : Int64), isOP d.natAbs ps → isHs T ord (gnS T ord fu (st0 T)) ps t u x6 x7 h' → hI h' 1 19 = jI 0 → hI h' 1 22 = jI 0 → Fr sBg tBg h h' → eL = jL (d % 2) → Run 44 [some (.ref 1), some (.long (jL d)), none, some (.long eL), none] [] h' (0, 0) := by
    rintro ps h' eL hop ⟨t1, t2, t3, t4, ⟨t5, t6, t7, t8⟩, t9, t10⟩ i19 i22 F rfl
    have L' := ly F
    have ed : (jL (d % 2) - jL d) / jL 4 = jL ((d % 2 - d).tdiv 4) := by rw [jL_sub, jL_div (by omega) (by omega) (by omega) (by omega)]
    have c24 := ct_24 G (L'.K 97 rfl) (jL 1) (jL (d % 2)) (jL ((d % 2 - d).tdiv 4))
    rw [← ed] at c24
    refine hR 60 24 _ _ _ _ _ _ rfl ?_
    refine ⟨L'.K 1 rfl, _, L'.R 1 6 _ rfl, by decide, L'.K 97 rfl, jcallV c24 ?_⟩
    rw [ed]
    have F2 : Fr (fun a => a = 97) noT h' (sFm h' 97 (prnF d)) := (Fr.refl (fun a => a = 97) noT h').sFm rfl _
    exact r60 ps (sFm h' 97 (prnF d)) _ hop ⟨t1.F F2 (fun x z => by omega), t2.F F2 (fun x z => by omega), t3.F F2 (by decide) (by decide), t4.F F2 (by decide) (by decide), ⟨t5.F F2 (by decide) (by decide) (fun z => z), t6.F F2 (by decide) (by decide) (fun z => z), t7.F F2 (by decide) (by decide) (fun z => z), t8.F F2 (by decide) (by decide) (fun z => z)⟩, t9.F F2 (fun _ _ z => z), t10.F F2 (fun _ _ z => z)⟩ (isFm_sFm h' (L'.K 97 rfl) _) i19 i22 (F.trans (F2.mono (fun a z => by omega) (fun _ z => z.elim)))
  have r40 : ∀ (ps : List Nat) (h' : mj_H) (x3 x4 : Option Value), isOP d.natAbs ps → isHs T ord (gnS T ord fu (st0 T)) ps t u x6 x7 h' → hI h' 1 19 = jI 0 → hI h' 1 22 = jI 0 → Fr sBg tBg h h' → Run 40 [some (.ref 1), some (.long (jL d)), none, x3, x4] [] h' (0, 0) := by
    intro ps h' x3 x4 hop hh i19 i22 F
    have r43 : ∀ (eL : Int64), eL = jL (d % 2) → Run 43 [some (.ref 1), some (.long (jL d)), none, x3, x4] [.long eL] h' (0, 0) := by
      intro eL e9
      refine hR 60 23 _ _ _ _ _ _ rfl ?_
      exact r44 ps h' eL hop hh i19 i22 F e9
    refine hR 60 20 _ _ _ _ _ _ rfl ?_
    exact r43 _ (jL_mask (k := 1) (by decide) rfl)
  have put1 : ∀ {ps : List Nat} {h' : mj_H} (j : Nat) (v : Int32), isHs T ord (gnS T ord fu (st0 T)) ps t u x6 x7 h' → isHs T ord (gnS T ord fu (st0 T)) ps t u x6 x7 (sI h' 1 j v) := by
    rintro ps h' j v ⟨t1, t2, t3, t4, ⟨t5, t6, t7, t8⟩, t9, t10⟩
    have F2 : Fr (fun a => a = 1) noT h' (sI h' 1 j v) := (Fr.refl (fun a => a = 1) noT h').sI rfl _ _
    exact ⟨t1.F F2 (fun x z => by omega), t2.F F2 (fun x z => by omega), t3.F F2 (by decide) (by decide), t4.F F2 (by decide) (by decide), ⟨t5.F F2 (by decide) (by decide) (fun z => z), t6.F F2 (by decide) (by decide) (fun z => z), t7.F F2 (by decide) (by decide) (fun z => z), t8.F F2 (by decide) (by decide) (fun z => z)⟩, t9.F F2 (fun _ _ z => z), t10.F F2 (fun _ _ z => z)⟩
  have r30 : ∀ (ps : List Nat) (h' : mj_H) (x3 x4 : Option Value), isOP d.natAbs ps → isHs T ord (gnS T ord fu (st0 T)) ps t u x6 x7 h' → Fr sBg tBg h h' → Run 30 [some (.ref 1), some (.long (jL d)), none, x3, x4] [] h' (0, 0) := by
    intro ps h' x3 x4 hop hh F
    have r35 : ∀ (x3 x4 : Option Value), Run 35 [some (.ref 1), some (.long (jL d)), none, x3, x4] [] (sI h' 1 22 (jI 0)) (0, 0) := by
      intro x3 x4
      refine hR 60 17 _ _ _ _ _ _ rfl ?_
      exact ⟨(ly F).K 1 rfl, r40 ps _ _ _ hop (put1 19 _ (put1 22 _ hh)) (sI_at _ _ _ _) rfl ((F.sI (by omega) _ _).sI (by omega) _ _)⟩
    refine hR 60 14 _ _ _ _ _ _ rfl ?_
    exact ⟨(ly F).K 1 rfl, r35 _ _⟩
  have r22 : ∀ (h' : mj_H) (x3 x4 : Option Value), isTB h' d w n A cls cnt nm → isGs (gnS T ord fu (st0 T)) h' → isGr T ord h' → (isW h' 30 t ∧ isW h' 32 u ∧ isW h' 42 x6 ∧ isW h' 44 x7) → isM0 h' 8 → isM0 h' 99 → Fr sBg tBg h h' → Run 22 [some (.ref 1), some (.long (jL d)), none, x3, x4] [] h' (0, 0) := by
    intro h' x3 x4 t1 t2 t3 ⟨t5, t6, t7, t8⟩ t9 t10 F
    have L' := ly F
    refine hR 60 10 _ _ _ _ _ _ rfl ?_
    refine ⟨L'.K 1 rfl, _, L'.R 1 3 _ rfl, L'.K 67 rfl, jcallP (ct_92 G L' (by omega)) ?_⟩
    rintro oc h2 ⟨rfl, ⟨ps, hop, hch⟩, F2⟩
    exact r30 ps h2 _ _ hop ⟨t1.F F2 (fun x z => by omega), t2.F F2 (fun x z => by omega), t3.F F2 (by omega) (by omega), hch, ⟨t5.F F2 (by omega) (by omega) (fun z => z), t6.F F2 (by omega) (by omega) (fun z => z), t7.F F2 (by omega) (by omega) (fun z => z), t8.F F2 (by omega) (by omega) (fun z => z)⟩, t9.F F2 (fun _ _ z => z), t10.F F2 (fun _ _ z => z)⟩ (F.trans (F2.mono (fun a z => by omega) (fun _ z => z.elim)))
  have r15 : ∀ (h' : mj_H) (x3 x4 : Option Value), isTB h' d w n A cls cnt nm → (isW h' 30 t ∧ isW h' 32 u ∧ isW h' 42 x6 ∧ isW h' 44 x7) → isM0 h' 8 → isM0 h' 99 → Fr sBg tBg h h' → Run 15 [some (.ref 1), some (.long (jL d)), none, x3, x4] [] h' (0, 0) := by
    intro h' x3 x4 t1 ⟨t5, t6, t7, t8⟩ t9 t10 F
    have L' := ly F
    refine hR 60 7 _ _ _ _ _ _ rfl ?_
    refine ⟨L'.K 1 rfl, _, L'.R 1 2 _ rfl, L'.K 52 rfl, jcallP (ct_74 G L' T t1 ho hok) ?_⟩
    rintro oc h2 ⟨rfl, g1, g2, F2⟩
    exact r22 h2 _ _ (t1.F F2 (fun x z => by omega)) g1 g2 ⟨t5.F F2 (by omega) (by omega) (fun z => z), t6.F F2 (by omega) (by omega) (fun z => z), t7.F F2 (by omega) (by omega) (fun z => z), t8.F F2 (by omega) (by omega) (fun z => z)⟩ (t9.F F2 (fun _ _ z => z)) (t10.F F2 (fun _ _ z => z)) (F.trans (F2.mono (fun a z => by omega) (fun _ z => z.elim)))
  have r8 : ∀ (h' : mj_H) (x3 x4 : Option Value), isRr h' 7 d w → (isW h' 30 t ∧ isW h' 32 u ∧ isW h' 42 x6 ∧ isW h' 44 x7) → isM0 h' 8 → isM0 h' 99 → Fr sBg tBg h h' → Run 8 [some (.ref 1), some (.long (jL d)), none, x3, x4] [] h' (0, 0) := by
    intro h' x3 x4 t1 ⟨t5, t6, t7, t8⟩ t9 t10 F
    have L' := ly F
    refine hR 60 4 _ _ _ _ _ _ rfl ?_
    refine ⟨L'.K 1 rfl, _, L'.R 1 1 _ rfl, L'.K 46 rfl, jcallP (ct_62 G L' t1 (by omega) (by omega) q1 q2 q3 q4 q5 q6 q7 q8) ?_⟩
    rintro oc h2 ⟨rfl, g1, g2, F2⟩
    rw [← hcls, ← hcnt, ← hnm] at g2
    exact r15 h2 _ _ ⟨g1, g2, t1.F F2 (by omega)⟩ ⟨t5.F F2 (by omega) (by omega) (fun z => z), t6.F F2 (by omega) (by omega) (fun z => z), t7.F F2 (by omega) (by omega) (fun z => z), t8.F F2 (by omega) (by omega) (fun z => z)⟩ (t9.F F2 (fun _ _ z => z)) (t10.F F2 (fun _ _ z => z)) (F.trans (F2.mono (fun a z => by omega) (fun _ z => z.elim)))
  refine hR 60 0 _ _ _ _ _ _ rfl ?_
  refine ⟨L.K 1 rfl, _, L.R 1 0 _ rfl, L.K 2 rfl, jcallP (ct_19 G L m8 (by omega) hu hbb.1 hbb.2.1 hbb.2.2) ?_⟩
  rintro oc h2 ⟨rfl, g1, g2, g3, g4, g5, -, -, -, -, g8, F2⟩
  exact r8 h2 _ _ g1 ⟨g2, g3, g4, g5⟩ g8 (m99.F F2 (fun x hx z => by omega)) (F2.mono (fun a z => by omega) (fun a z => Or.inl z))
end
/-- FormHouse.take(I)I; cuts at [32] -/
def cd_98 : List mj_E := [(0, false, .iload_n 1, 1, 0, 0, 0, 0, 0),
  (1, false, .ldc 160, 2, 0, 0, 0, jI (-1048576), 0),
  (3, false, .if_icmp .lt 28, 3, 17, 0, 0, 0, 0),
  (6, false, .iload_n 1, 1, 0, 0, 0, 0, 0),
  (7, false, .ldc 161, 2, 0, 0, 0, jI 1048576, 0),
  (9, false, .if_icmp .gt 22, 3, 17, 0, 0, 0, 0),
  (12, false, .iload_n 1, 1, 0, 0, 0, 0, 0),
  (13, false, .iconst 3, 1, 0, 0, 0, jI 3, 0),
  (14, false, .iand, 1, 0, 0, 0, 0, 0),
  (15, false, .iconst 2, 1, 0, 0, 0, jI 2, 0),
  (16, false, .if_icmp .ge 15, 3, 17, 0, 0, 0, 0),
  (19, false, .iload_n 1, 1, 0, 0, 0, 0, 0),
  (20, false, .i2l, 1, 0, 0, 0, 0, 0),
  (21, false, .invokestatic 162, 3, 99, 1, 0, 0, 0),
  (24, false, .ifCond .ne 7, 3, 17, 0, 0, 0, 0),
  (27, false, .iconst 1, 1, 0, 0, 0, jI 1, 0),
  (28, false, .goto 4, 3, 18, 0, 0, 0, 0),
  (31, false, .iconst 0, 1, 0, 0, 0, jI 0, 0),
  (32, true, .invokestatic 166, 3, 100, 1, 0, 0, 0),
  (35, false, .aload_n 0, 1, 0, 0, 0, 0, 0),
  (36, false, .iload_n 1, 1, 0, 0, 0, 0, 0),
  (37, false, .i2l, 1, 0, 0, 0, 0, 0),
  (38, false, .invokevirtual 124, 3, 18, 1, 0, 0, 0),
  (41, false, .aload_n 0, 1, 0, 0, 0, 0, 0),
  (42, false, .getfield 37, 3, 0, 1, 2, 0, 0),
  (45, false, .getfield 170, 3, 7, 5, 0, 0, 0),
  (48, false, .ireturn, 1, 0, 0, 0, 0, 0)]
def cx_98 : mj_X := (1, [], [])
theorem tb_98 : mj_tab (mj_mt 98) cx_98 cd_98 mj_mh [(0, 0, 0), (5046, 0, 0), (0, 0, 0), (0, 0, 0), (5047, 0, 0), (0, 0, 0), (0, 0, 0), (0, 0, 0), (0, 0, 0), (0, 0, 0), (0, 0, 0), (0, 0, 0), (0, 0, 0), (5048, 0, 0), (0, 0, 0), (0, 0, 0), (0, 0, 0), (0, 0, 0), (5051, 0, 0), (0, 0, 0), (0, 0, 0), (0, 0, 0), (3046, 0, 0), (0, 0, 0), (4204, 0, 0), (2001, 0, 0), (0, 0, 0)] = true := mj_tab_f (by decide +kernel)
theorem ct_98 (G : mj_G) {h : mj_H} (L : isLay h) {v : Int} (hv : -2147483648 ≤ v ∧ v < 2147483648) {P : mj_H → Prop} {cnt : Nat} (hb : tkP v → mj_Ct G (mj_mt 18) 0 0 [.ref 1, .long (jL v)] h (fun oc h' => oc = .returned none ∧ P h' ∧ hI h' 46 5 = jI cnt ∧ isLay h')) : mj_Ct G (mj_mt 98) 1 6 [.ref 1, .int (jI v)] h (fun oc h' => (tkP v → oc = .returned (some (.int (jI cnt))) ∧ P h') ∧ (¬ tkP v → jE 80 h oc h')) := by
  have ev : (jI v).toInt64 = jL v := jI_L hv.1 hv.2
  refine mj_Ct_of mj_ok tb_98 rfl rfl (Nat.le_of_ble_eq_true rfl) (fun Run hR => ?_)
  have good : tkP v → Run 32 [some (.ref 1), some (.int (jI v))] [.int (jI 1)] h (1, 6) := by
    intro ht
    have c := hb ht
    rw [← ev] at c
    refine hR 60 18 _ _ _ _ _ _ rfl ?_
    refine jcallV (ct_100a G h) ⟨L.K 1 rfl, jcallP c ?_⟩
    rintro oc h2 ⟨rfl, p2, e2, L2⟩
    refine ⟨L2.K 1 rfl, _, L2.R 1 1 _ rfl, L2.K 46 rfl, fun _ => ⟨?_, p2⟩, fun z => absurd ht z⟩
    rw [e2]
  have bad : ¬ tkP v → Run 32 [some (.ref 1), some (.int (jI v))] [.int (jI 0)] h (1, 6) := by
    intro ht
    refine hR 60 18 _ _ _ _ _ _ rfl ?_
    exact jcallE (ct_100b G h) ⟨fun z => absurd z ht, fun _ => jE0 _ _⟩
  have em : jI v &&& jI 3 = jI (v % 4) := jI_mask (k := 2) (by decide) rfl
  refine hR 60 0 _ _ _ _ _ _ rfl ?_
  refine ⟨fun c => bad ?_, fun c => ⟨fun c2 => bad ?_, fun c2 => ⟨fun c3 => bad ?_, fun c3 => ?_⟩⟩⟩
  · simp (disch := omega) only [mj_lcm, jI_lt, jI_le, jI_eq, jL_lt, jL_le, jL_eq, jI_lt0, jI_0le, jI_0lt, jI_le0, jI_eq0, jL_eq0, jI_L, jI_add, jI_sub, jI_mul, jI_neg, jL_add, jL_sub, jL_mul, jL_neg, jL_I, jI_div, jI_mod, jL_div, jL_mod] at c
    intro z
    have := z.1
    omega
  · simp (disch := omega) only [mj_lcm, jI_lt, jI_le, jI_eq, jL_lt, jL_le, jL_eq, jI_lt0, jI_0le, jI_0lt, jI_le0, jI_eq0, jL_eq0, jI_L, jI_add, jI_sub, jI_mul, jI_neg, jL_add, jL_sub, jL_mul, jL_neg, jL_I, jI_div, jI_mod, jL_div, jL_mod] at c c2
    intro z
    have := z.1
    omega
  · have c' : jI 2 ≤ jI v &&& jI 3 := c3
    rw [em, jI_le (by omega) (by omega) (by omega) (by omega)] at c'
    intro z
    have := z.2.1
    unfold isDd at this
    omega
  · have c' : ¬ jI 2 ≤ jI v &&& jI 3 := c3
    rw [em, jI_le (by omega) (by omega) (by omega) (by omega)] at c'
    simp (disch := omega) only [mj_lcm, jI_lt, jI_le, jI_eq, jL_lt, jL_le, jL_eq, jI_lt0, jI_0le, jI_0lt, jI_le0, jI_eq0, jL_eq0, jI_L, jI_add, jI_sub, jI_mul, jI_neg, jL_add, jL_sub, jL_mul, jL_neg, jL_I, jI_div, jI_mod, jL_div, jL_mod] at c c2
    have c99 := ct_99 G (d := v) (by omega) (by omega) h
    rw [← ev] at c99
    refine jcallP c99 ?_
    rintro oc h2 ⟨rfl, b, hb2, rfl, hsq⟩
    rcases hb2 with rfl | rfl
    · refine ⟨fun _ => good ⟨by omega, by unfold isDd; omega, fun z hz => ?_⟩, fun c => absurd rfl c⟩
      have := hsq.2 ⟨z, hz⟩
      omega
    · refine ⟨fun c => absurd c (by decide), fun _ => bad (fun z => ?_)⟩
      obtain ⟨y, hy⟩ := hsq.1 rfl
      exact z.2.2 y hy
/-- the heap at which the form at hand is settled -/
def askH (h : mj_H) (f : Fm) : mj_H := sI (sFm (sFm h 113 f) 97 f) 1 19 (jI 0)
/-- FormHouse.ask(III)I; cuts at [26, 29, 52, 54, 78, 95] -/
def cl_131_2 : List mj_E := (95, true, .invokestatic 166, 3, 100, 1, 0, 0, 0) ::
  (98, false, .aload_n 0, 1, 0, 0, 0, 0, 0) ::
  (99, false, .getfield 77, 3, 0, 6, 2, 0, 0) ::
  (102, false, .aload_n 0, 1, 0, 0, 0, 0, 0) ::
  (103, false, .getfield 94, 3, 0, 13, 2, 0, 0) ::
  (106, false, .invokevirtual 272, 3, 25, 1, 6, 0, 0) ::
  (109, false, .aload_n 0, 1, 0, 0, 0, 0, 0) ::
  (110, false, .iconst 0, 1, 0, 0, 0, jI 0, 0) ::
  (111, false, .putfield 150, 3, 0, 19, 0, 0, 0) ::
  (114, false, .aload_n 0, 1, 0, 0, 0, 0, 0) ::
  (115, false, .invokevirtual 159, 3, 93, 0, 0, 0, 0) ::
  (118, false, .aload_n 0, 1, 0, 0, 0, 0, 0) ::
  (119, false, .getfield 206, 3, 0, 8, 0, 0, 0) ::
  (122, false, .ireturn, 1, 0, 0, 0, 0, 0) ::
  []
def cl_131_1 : List mj_E := (46, false, .getfield 30, 3, 1, 1, 2, 0, 0) ::
  (49, false, .getfield 173, 3, 3, 0, 1, 0, 0) ::
  (52, true, .lstore 4, 2, 0, 0, 0, 0, 0) ::
  (54, true, .aload_n 0, 1, 0, 0, 0, 0, 0) ::
  (55, false, .getfield 94, 3, 0, 13, 2, 0, 0) ::
  (58, false, .invokevirtual 300, 3, 133, 0, 6, 0, 0) ::
  (61, false, .lload 4, 2, 0, 0, 0, 0, 0) ::
  (63, false, .lcmp, 1, 0, 0, 0, 0, 0) ::
  (64, false, .ifCond .ne 30, 3, 47, 0, 0, 0, 0) ::
  (67, false, .lload 4, 2, 0, 0, 0, 0, 0) ::
  (69, false, .lconst 0, 1, 0, 0, 0, 0, jL 0) ::
  (70, false, .lcmp, 1, 0, 0, 0, 0, 0) ::
  (71, false, .ifCond .gt 7, 3, 39, 0, 0, 0, 0) ::
  (74, false, .iload_n 1, 1, 0, 0, 0, 0, 0) ::
  (75, false, .ifCond .le 19, 3, 47, 0, 0, 0, 0) ::
  (78, true, .aload_n 0, 1, 0, 0, 0, 0, 0) ::
  (79, false, .getfield 94, 3, 0, 13, 2, 0, 0) ::
  (82, false, .invokevirtual 304, 3, 67, 0, 6, 0, 0) ::
  (85, false, .lconst 1, 1, 0, 0, 0, 0, jL 1) ::
  (86, false, .lcmp, 1, 0, 0, 0, 0, 0) ::
  (87, false, .ifCond .ne 7, 3, 47, 0, 0, 0, 0) ::
  (90, false, .iconst 1, 1, 0, 0, 0, jI 1, 0) ::
  (91, false, .goto 4, 3, 48, 0, 0, 0, 0) ::
  (94, false, .iconst 0, 1, 0, 0, 0, jI 0, 0) ::
  cl_131_2
def cl_131_0 : List mj_E := (0, false, .iload_n 1, 1, 0, 0, 0, 0, 0) ::
  (1, false, .invokestatic 296, 3, 132, 1, 0, 0, 0) ::
  (4, false, .ifCond .eq 21, 3, 11, 0, 0, 0, 0) ::
  (7, false, .iload_n 2, 1, 0, 0, 0, 0, 0) ::
  (8, false, .invokestatic 296, 3, 132, 1, 0, 0, 0) ::
  (11, false, .ifCond .eq 14, 3, 11, 0, 0, 0, 0) ::
  (14, false, .iload_n 3, 1, 0, 0, 0, 0, 0) ::
  (15, false, .invokestatic 296, 3, 132, 1, 0, 0, 0) ::
  (18, false, .ifCond .eq 7, 3, 11, 0, 0, 0, 0) ::
  (21, false, .iconst 1, 1, 0, 0, 0, jI 1, 0) ::
  (22, false, .goto 4, 3, 12, 0, 0, 0, 0) ::
  (25, false, .iconst 0, 1, 0, 0, 0, jI 0, 0) ::
  (26, true, .invokestatic 166, 3, 100, 1, 0, 0, 0) ::
  (29, true, .aload_n 0, 1, 0, 0, 0, 0, 0) ::
  (30, false, .getfield 94, 3, 0, 13, 2, 0, 0) ::
  (33, false, .iload_n 1, 1, 0, 0, 0, 0, 0) ::
  (34, false, .i2l, 1, 0, 0, 0, 0, 0) ::
  (35, false, .iload_n 2, 1, 0, 0, 0, 0, 0) ::
  (36, false, .i2l, 1, 0, 0, 0, 0, 0) ::
  (37, false, .iload_n 3, 1, 0, 0, 0, 0, 0) ::
  (38, false, .i2l, 1, 0, 0, 0, 0, 0) ::
  (39, false, .invokevirtual 155, 3, 24, 3, 6, 0, 0) ::
  (42, false, .aload_n 0, 1, 0, 0, 0, 0, 0) ::
  (43, false, .getfield 24, 3, 0, 0, 2, 0, 0) ::
  cl_131_1
def cd_131 : List mj_E := cl_131_0
def cx_131 : mj_X := (1, [], [])
theorem tb_131 : mj_tab (mj_mt 131) cx_131 cd_131 mj_mh [(0, 0, 0), (5198, 0, 0), (0, 0, 0), (0, 0, 0), (5198, 0, 0), (0, 0, 0), (0, 0, 0), (5198, 0, 0), (0, 0, 0), (0, 0, 0), (0, 0, 0), (0, 0, 0), (5051, 0, 0), (0, 0, 0), (4216, 0, 0), (0, 0, 0), (0, 0, 0), (0, 0, 0), (0, 0, 0), (0, 0, 0), (0, 0, 0), (4181, 0, 0), (0, 0, 0), (4203, 0, 0), (1192, 0, 0), (1076, 0, 0), (0, 0, 0), (0, 0, 0), (4216, 0, 0), (5203, 0, 0), (0, 0, 0), (0, 0, 0), (0, 0, 0), (0, 0, 0), (0, 0, 0), (0, 0, 0), (0, 0, 0), (0, 0, 0), (0, 0, 0), (0, 0, 0), (4216, 0, 0), (5208, 0, 0), (0, 0, 0), (0, 0, 0), (0, 0, 0), (0, 0, 0), (0, 0, 0), (0, 0, 0), (5051, 0, 0), (0, 0, 0), (4209, 0, 0), (0, 0, 0), (4216, 0, 0), (4187, 0, 0), (0, 0, 0), (0, 0, 0), (4222, 0, 0), (0, 0, 0), (4182, 0, 0), (0, 0, 0), (4211, 0, 0), (0, 0, 0)] = true := mj_tab_f (by decide +kernel)
theorem ct_131 (G : mj_G) {h : mj_H} (L : isLay h) {d w : Int} (hr : isRr h 7 d w) (hd : -1048576 ≤ d ∧ d ≤ 1048576) {a b c : Int} (ha : -2147483648 ≤ a ∧ a < 2147483648) (hb : -2147483648 ≤ b ∧ b < 2147483648) (hc : -2147483648 ≤ c ∧ c < 2147483648) {P : mj_H → Prop} {k : Nat} (ho : akP d a b c → mj_Ct G (mj_mt 93) 0 0 [.ref 1] (askH h (a, b, c)) (fun oc h' => oc = .returned none ∧ P h' ∧ hI h' 1 8 = jI k ∧ isLay h')) : mj_Ct G (mj_mt 131) 1 6 [.ref 1, .int (jI a), .int (jI b), .int (jI c)] h (fun oc h' => (akP d a b c → oc = .returned (some (.int (jI k))) ∧ P h') ∧ (¬ akP d a b c → jX s113 noT 80 h oc h')) := by
  have ea : (jI a).toInt64 = jL a := jI_L ha.1 ha.2
  have eb : (jI b).toInt64 = jL b := jI_L hb.1 hb.2
  have ec : (jI c).toInt64 = jL c := jI_L hc.1 hc.2
  have q1 : Fr s113 noT h (sFm h 113 (a, b, c)) := (Fr.refl s113 noT h).sFm rfl _
  have L1 := L.F q1 (fun _ z => z.elim)
  have g1 := isFm_sFm h (L.K 113 rfl) (a, b, c)
  have hr1 := hr.F q1 (by decide)
  refine mj_Ct_of mj_ok tb_131 rfl rfl (Nat.le_of_ble_eq_true rfl) (fun Run hR => ?_)
  have good : akP d a b c → ∀ (x4 x5 : Option Value), Run 95 [some (.ref 1), some (.int (jI a)), some (.int (jI b)), some (.int (jI c)), x4, x5] [.int (jI 1)] (sFm h 113 (a, b, c)) (1, 6) := by
    intro ht x4 x5
    have hc := ho ht
    refine hR 60 48 _ _ _ _ _ _ rfl ?_
    refine jcallV (ct_100a G _) ⟨L1.K 1 rfl, _, L1.R 1 6 _ rfl, L1.K 1 rfl, _, L1.R 1 13 _ rfl, L1.K 97 rfl, jcallV (ct_25 G (L1.K 97 rfl) (L1.K 113 rfl)) ?_⟩
    rw [g1.2.1, g1.2.2.1, g1.2.2.2]
    refine ⟨L1.K 1 rfl, L1.K 1 rfl, jcallP hc ?_⟩
    rintro oc h2 ⟨rfl, p2, e2, L2⟩
    refine ⟨L2.K 1 rfl, fun _ => ⟨?_, p2⟩, fun z => absurd ht z⟩
    rw [e2]
  have bad : ¬ akP d a b c → ∀ (x4 x5 : Option Value), Run 95 [some (.ref 1), some (.int (jI a)), some (.int (jI b)), some (.int (jI c)), x4, x5] [.int (jI 0)] (sFm h 113 (a, b, c)) (1, 6) := by
    intro ht x4 x5
    refine hR 60 48 _ _ _ _ _ _ rfl ?_
    exact jcallE (ct_100b G _) ⟨fun z => absurd z ht, fun _ => ⟨_, q1, rfl, rfl⟩⟩
  have bad0 : ¬ akP d a b c → ∀ (x4 x5 : Option Value), Run 26 [some (.ref 1), some (.int (jI a)), some (.int (jI b)), some (.int (jI c)), x4, x5] [.int (jI 0)] h (1, 6) := by
    intro ht x4 x5
    refine hR 60 12 _ _ _ _ _ _ rfl ?_
    exact jcallE (ct_100b G _) ⟨fun z => absurd z ht, fun _ => ⟨h, Fr.refl _ _ h, rfl, rfl⟩⟩
  have r54 : ((-1073741824 ≤ a ∧ a ≤ 1073741824) ∧ (-1073741824 ≤ b ∧ b ≤ 1073741824) ∧ (-1073741824 ≤ c ∧ c ≤ 1073741824)) → Run 54 [some (.ref 1), some (.int (jI a)), some (.int (jI b)), some (.int (jI c)), some (.long (jL d)), none] [] (sFm h 113 (a, b, c)) (1, 6) := by
    intro hsh
    have hbb := mbd (a := b) (b := b) (A := 1073741824) (B := 1073741824) hsh.2.1 hsh.2.1
    have hac := mbd (a := a) (b := c) (A := 1073741824) (B := 1073741824) hsh.1 hsh.2.2
    have hdi : 4 * a * c = 4 * (a * c) := Int.mul_assoc _ _ _
    have c67 := ct_67 G (h := sFm h 113 (a, b, c)) (f := 113) g1 (by simp only; omega)
    have r78 : b * b - 4 * a * c = d → (d ≤ 0 → 0 < a) → Run 78 [some (.ref 1), some (.int (jI a)), some (.int (jI b)), some (.int (jI c)), some (.long (jL d)), none] [] (sFm h 113 (a, b, c)) (1, 6) := by
      intro h1 h2
      have hg : Int.gcd (Int.gcd a b) c ≤ 1073741824 ∨ a = 0 ∧ b = 0 := by
        by_cases z : a = 0 ∧ b = 0
        · exact Or.inr z
        · left
          have h3 : (Int.gcd a b : Int) ≠ 0 := by
            intro y
            have y' : Int.gcd a b = 0 := by omega
            exact z (Int.gcd_eq_zero_iff.1 y')
          have h4 := Int.gcd_le_natAbs_left (a := (Int.gcd a b : Int)) c h3
          have h5 : Int.gcd a b ≤ 1073741824 := by
            by_cases za : a = 0
            · have h6 := Int.gcd_le_natAbs_right a (b := b) (fun y => z ⟨za, y⟩)
              omega
            · have h6 := Int.gcd_le_natAbs_left (a := a) b za
              omega
          omega
      have hg0 : ¬ (a = 0 ∧ b = 0) ∨ Int.gcd (Int.gcd a b) c ≤ 1073741824 := by
        by_cases z : a = 0 ∧ b = 0
        · right
          rw [z.1, z.2, show ((Int.gcd 0 0 : Nat) : Int) = 0 from rfl, Int.gcd_zero_left]
          omega
        · exact Or.inl z
      have hgb : Int.gcd (Int.gcd a b) c ≤ 1073741824 := by
        rcases hg with z | z
        · exact z
        · rcases hg0 with y | y
          · exact absurd z y
          · exact y
      refine hR 60 39 _ _ _ _ _ _ rfl ?_
      refine ⟨L1.K 1 rfl, _, L1.R 1 13 _ rfl, L1.K 113 rfl, jcall c67 ⟨fun c => ?_, fun c => ?_⟩⟩
      · simp (disch := omega) only [mj_lcm, jI_lt, jI_le, jI_eq, jL_lt, jL_le, jL_eq, jI_lt0, jI_0le, jI_0lt, jI_le0, jI_eq0, jL_eq0, jI_L, jI_add, jI_sub, jI_mul, jI_neg, jL_add, jL_sub, jL_mul, jL_neg, jL_I, jI_div, jI_mod, jL_div, jL_mod] at c
        exact good ⟨hsh, h1, h2, by omega⟩ _ _
      · simp (disch := omega) only [mj_lcm, jI_lt, jI_le, jI_eq, jL_lt, jL_le, jL_eq, jI_lt0, jI_0le, jI_0lt, jI_le0, jI_eq0, jL_eq0, jI_L, jI_add, jI_sub, jI_mul, jI_neg, jL_add, jL_sub, jL_mul, jL_neg, jL_I, jI_div, jI_mod, jL_div, jL_mod] at c
        exact bad (fun z => c (by have := z.2.2.2; omega)) _ _
    refine hR 60 27 _ _ _ _ _ _ rfl ?_
    refine ⟨L1.K 1 rfl, _, L1.R 1 13 _ rfl, L1.K 113 rfl, jcall (ct_133 G g1) ⟨fun cc => ⟨fun c2 => ?_, fun c2 => ⟨fun c3 => ?_, fun c3 => ?_⟩⟩, fun cc => ?_⟩⟩
    · have c' : jL (b * b - 4 * a * c) = jL d := cc
      rw [jL_eq (by omega) (by omega) (by omega) (by omega)] at c'
      simp (disch := omega) only [mj_lcm, jI_lt, jI_le, jI_eq, jL_lt, jL_le, jL_eq, jI_lt0, jI_0le, jI_0lt, jI_le0, jI_eq0, jL_eq0, jI_L, jI_add, jI_sub, jI_mul, jI_neg, jL_add, jL_sub, jL_mul, jL_neg, jL_I, jI_div, jI_mod, jL_div, jL_mod] at c2
      exact r78 c' (fun z => absurd z (by omega))
    · simp (disch := omega) only [mj_lcm, jI_lt, jI_le, jI_eq, jL_lt, jL_le, jL_eq, jI_lt0, jI_0le, jI_0lt, jI_le0, jI_eq0, jL_eq0, jI_L, jI_add, jI_sub, jI_mul, jI_neg, jL_add, jL_sub, jL_mul, jL_neg, jL_I, jI_div, jI_mod, jL_div, jL_mod] at c2 c3
      exact bad (fun z => absurd (z.2.2.1 (by omega)) (by omega)) _ _
    · have c' : jL (b * b - 4 * a * c) = jL d := cc
      rw [jL_eq (by omega) (by omega) (by omega) (by omega)] at c'
      simp (disch := omega) only [mj_lcm, jI_lt, jI_le, jI_eq, jL_lt, jL_le, jL_eq, jI_lt0, jI_0le, jI_0lt, jI_le0, jI_eq0, jL_eq0, jI_L, jI_add, jI_sub, jI_mul, jI_neg, jL_add, jL_sub, jL_mul, jL_neg, jL_I, jI_div, jI_mod, jL_div, jL_mod] at c2 c3
      exact r78 c' (fun z => by omega)
    · have c' : ¬ jL (b * b - 4 * a * c) = jL d := cc
      rw [jL_eq (by omega) (by omega) (by omega) (by omega)] at c'
      exact bad (fun z => c' z.2.1) _ _
  have r29 : ((-1073741824 ≤ a ∧ a ≤ 1073741824) ∧ (-1073741824 ≤ b ∧ b ≤ 1073741824) ∧ (-1073741824 ≤ c ∧ c ≤ 1073741824)) → ∀ (x4 x5 : Option Value), Run 29 [some (.ref 1), some (.int (jI a)), some (.int (jI b)), some (.int (jI c)), x4, x5] [] h (1, 6) := by
    intro hsh x4 x5
    have r52 : ∀ (dL : Int64) (x4 x5 : Option Value), dL = jL d → Run 52 [some (.ref 1), some (.int (jI a)), some (.int (jI b)), some (.int (jI c)), x4, x5] [.long dL] (sFm h 113 (a, b, c)) (1, 6) := by
      rintro dL x4 x5 rfl
      refine hR 60 26 _ _ _ _ _ _ rfl ?_
      exact r54 hsh
    have c24 := ct_24 G (L.K 113 rfl) (jI a).toInt64 (jI b).toInt64 (jI c).toInt64
    refine hR 60 13 _ _ _ _ _ _ rfl ?_
    refine ⟨L.K 1 rfl, _, L.R 1 13 _ rfl, L.K 113 rfl, jcallV c24 ?_⟩
    rw [ea, eb, ec]
    exact ⟨L1.K 1 rfl, _, L1.R 1 0 _ rfl, L1.K 2 rfl, _, L1.R 2 1 _ rfl, L1.K 7 rfl, r52 _ _ _ hr1.2.1⟩
  have good0 : ((-1073741824 ≤ a ∧ a ≤ 1073741824) ∧ (-1073741824 ≤ b ∧ b ≤ 1073741824) ∧ (-1073741824 ≤ c ∧ c ≤ 1073741824)) → ∀ (x4 x5 : Option Value), Run 26 [some (.ref 1), some (.int (jI a)), some (.int (jI b)), some (.int (jI c)), x4, x5] [.int (jI 1)] h (1, 6) := by
    intro hsh x4 x5
    refine hR 60 12 _ _ _ _ _ _ rfl ?_
    exact jcallV (ct_100a G h) (r29 hsh _ _)
  refine hR 60 0 _ _ _ _ _ _ rfl ?_
  refine jcall (ct_132 G ha.1 ha.2 h) ?_
  by_cases za : -1073741824 ≤ a ∧ a ≤ 1073741824
  · rw [if_pos za]
    refine ⟨fun c => absurd c (by decide), fun _ => jcall (ct_132 G hb.1 hb.2 h) ?_⟩
    by_cases zb : -1073741824 ≤ b ∧ b ≤ 1073741824
    · rw [if_pos zb]
      refine ⟨fun c => absurd c (by decide), fun _ => jcall (ct_132 G hc.1 hc.2 h) ?_⟩
      by_cases zc : -1073741824 ≤ c ∧ c ≤ 1073741824
      · rw [if_pos zc]
        exact ⟨fun c => absurd c (by decide), fun _ => good0 ⟨za, zb, zc⟩ _ _⟩
      · rw [if_neg zc]
        exact ⟨fun _ => bad0 (fun z => zc z.1.2.2) _ _, fun c => absurd rfl c⟩
    · rw [if_neg zb]
      exact ⟨fun _ => bad0 (fun z => zb z.1.2.1) _ _, fun c => absurd rfl c⟩
  · rw [if_neg za]
    exact ⟨fun _ => bad0 (fun z => za z.1.1) _ _, fun c => absurd rfl c⟩
