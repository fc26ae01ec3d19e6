/-! contracts: places, classes -/
theorem jI_s {c : Int} (h1 : -32768 ≤ c) (h2 : c < 32768) : (jI c).toInt16.toInt32 = jI c := by
  have e1 : (jI c).toInt16 = Int16.ofInt c := Int32.toInt16_ofInt
  rw [e1]
  exact Int16.toInt32_ofInt h1 (by show c ≤ 32767; omega)
def sst (n : Nat) (A : Nat → pI) : Prop := ∀ i j, i < j → j < n → (A i).1 < (A j).1 ∨ ((A i).1 = (A j).1 ∧ (A i).2 < (A j).2)
/-- FormHouse$Table.placeOf(LFormHouse$Form;)I; cuts at [9, 23, 50] -/
def cl_73_1 : List mj_E := (33, false, .l2i, 1, 0, 0, 0, 0, 0) ::
  (34, false, .iload 4, 2, 0, 0, 0, 0, 0) ::
  (36, false, .invokevirtual 94, 3, 70, 3, 7, 0, 0) ::
  (39, false, .ifCond .eq 11, 3, 33, 0, 0, 0, 0) ::
  (42, false, .iload 4, 2, 0, 0, 0, 0, 0) ::
  (44, false, .iconst 1, 1, 0, 0, 0, jI 1, 0) ::
  (45, false, .isub, 1, 0, 0, 0, 0, 0) ::
  (46, false, .istore_n 3, 1, 0, 0, 0, 0, 0) ::
  (47, false, .goto 6, 3, 35, 0, 0, 0, 0) ::
  (50, true, .iload 4, 2, 0, 0, 0, 0, 0) ::
  (52, false, .istore_n 2, 1, 0, 0, 0, 0, 0) ::
  (53, false, .goto (-44), 3, 7, 0, 0, 0, 0) ::
  (56, false, .iload_n 2, 1, 0, 0, 0, 0, 0) ::
  (57, false, .ireturn, 1, 0, 0, 0, 0, 0) ::
  []
def cl_73_0 : List mj_E := (0, false, .iconst 0, 1, 0, 0, 0, jI 0, 0) ::
  (1, false, .istore_n 2, 1, 0, 0, 0, 0, 0) ::
  (2, false, .aload_n 0, 1, 0, 0, 0, 0, 0) ::
  (3, false, .getfield 37, 3, 7, 1, 0, 0, 0) ::
  (6, false, .iconst 1, 1, 0, 0, 0, jI 1, 0) ::
  (7, false, .isub, 1, 0, 0, 0, 0, 0) ::
  (8, false, .istore_n 3, 1, 0, 0, 0, 0, 0) ::
  (9, true, .iload_n 2, 1, 0, 0, 0, 0, 0) ::
  (10, false, .iload_n 3, 1, 0, 0, 0, 0, 0) ::
  (11, false, .if_icmp .ge 45, 3, 36, 0, 0, 0, 0) ::
  (14, false, .iload_n 2, 1, 0, 0, 0, 0, 0) ::
  (15, false, .iload_n 3, 1, 0, 0, 0, 0, 0) ::
  (16, false, .iadd, 1, 0, 0, 0, 0, 0) ::
  (17, false, .iconst 1, 1, 0, 0, 0, jI 1, 0) ::
  (18, false, .iadd, 1, 0, 0, 0, 0, 0) ::
  (19, false, .iconst 2, 1, 0, 0, 0, jI 2, 0) ::
  (20, false, .idiv, 1, 0, 0, 0, 0, 0) ::
  (21, false, .istore 4, 2, 0, 0, 0, 0, 0) ::
  (23, true, .aload_n 0, 1, 0, 0, 0, 0, 0) ::
  (24, false, .aload_n 1, 1, 0, 0, 0, 0, 0) ::
  (25, false, .getfield 98, 3, 6, 0, 1, 0, 0) ::
  (28, false, .l2i, 1, 0, 0, 0, 0, 0) ::
  (29, false, .aload_n 1, 1, 0, 0, 0, 0, 0) ::
  (30, false, .getfield 101, 3, 6, 1, 1, 0, 0) ::
  cl_73_1
def cd_73 : List mj_E := cl_73_0
def cx_73 : mj_X := (1, [], [])
theorem tb_73 : mj_tab (mj_mt 73) cx_73 cd_73 mj_mh [(0, 0, 0), (0, 0, 0), (0, 0, 0), (1234, 0, 0), (0, 0, 0), (0, 0, 0), (0, 0, 0), (0, 0, 0), (0, 0, 0), (0, 0, 0), (0, 0, 0), (0, 0, 0), (0, 0, 0), (0, 0, 0), (0, 0, 0), (0, 0, 0), (0, 0, 0), (0, 0, 0), (0, 0, 0), (0, 0, 0), (1163, 0, 0), (0, 0, 0), (0, 0, 0), (1172, 0, 0), (0, 0, 0), (0, 0, 0), (4074, 0, 0), (0, 0, 0), (0, 0, 0), (0, 0, 0), (0, 0, 0), (0, 0, 0), (0, 0, 0), (0, 0, 0), (0, 0, 0), (0, 0, 0), (0, 0, 0), (0, 0, 0)] = true := mj_tab_f (by decide +kernel)
theorem ct_73 (G : mj_G) {h : mj_H} (L : isLay h) {n : Nat} {A : Nat → pI} (hA : isTa h n A) (hS : sst n A) {c k : Nat} {g : Fm} (hf : isFm h c g) (hk : k < n) (h1 : g.1 = (A k).1) (h2 : g.2.1 = (A k).2) : mj_Ct G (mj_mt 73) 0 0 [.ref 46, .ref c] h (jR (.int (jI k)) h) := by
  have hn := hA.2.1
  obtain ⟨fk, fa, fb, fc⟩ := hf
  have ka := (hA.2.2 k hk).2.2
  have ea : (hJ h c 0).toInt32 = jI (A k).1 := by rw [fa, jL_I, h1]
  have eb : (hJ h c 1).toInt32 = jI (A k).2 := by rw [fb, jL_I, h2]
  refine mj_Ct_of mj_ok tb_73 rfl rfl (Nat.le_of_ble_eq_true rfl) (fun Run hR => ?_)
  have loop : ∀ (m lo hi : Nat) (loI hiI : Int32) (x4 : Option Value), hi - lo ≤ m → lo ≤ k → k ≤ hi → hi < n → loI = jI lo → hiI = jI hi → Run 9 [some (.ref 46), some (.ref c), some (.int loI), some (.int hiI), x4] [] h (0, 0) := by
    intro m
    induction m with
    | zero =>
      rintro lo hi loI hiI x4 hm h3 h4 h5 rfl rfl
      refine hR 60 7 _ _ _ _ _ _ rfl ?_
      refine ⟨fun c1 => ?_, fun c1 => ?_⟩
      · refine jRe ?_
        rw [show lo = k by omega]
      · simp (disch := omega) only [mj_lcm, jI_lt, jI_le, jI_eq, jL_lt, jL_le, jL_eq, jI_lt0, jI_0le, jI_0lt, jI_le0, jI_eq0, jL_eq0, jI_L, jI_add, jI_sub, jI_mul, jI_neg, jL_add, jL_sub, jL_mul, jL_neg, jL_I, jI_div, jI_mod, jL_div, jL_mod] at c1
        omega
    | succ m ih =>
      rintro lo hi loI hiI x4 hm h3 h4 h5 rfl rfl
      refine hR 60 7 _ _ _ _ _ _ rfl ?_
      refine ⟨fun c1 => ?_, fun c1 => ⟨by decide, ?_⟩⟩
      · simp (disch := omega) only [mj_lcm, jI_lt, jI_le, jI_eq, jL_lt, jL_le, jL_eq, jI_lt0, jI_0le, jI_0lt, jI_le0, jI_eq0, jL_eq0, jI_L, jI_add, jI_sub, jI_mul, jI_neg, jL_add, jL_sub, jL_mul, jL_neg, jL_I, jI_div, jI_mod, jL_div, jL_mod] at c1
        refine jRe ?_
        rw [show lo = k by omega]
      · simp (disch := omega) only [mj_lcm, jI_lt, jI_le, jI_eq, jL_lt, jL_le, jL_eq, jI_lt0, jI_0le, jI_0lt, jI_le0, jI_eq0, jL_eq0, jI_L, jI_add, jI_sub, jI_mul, jI_neg, jL_add, jL_sub, jL_mul, jL_neg, jL_I, jI_div, jI_mod, jL_div, jL_mod] at c1
        have em : (jI (lo : Int) + jI (hi : Int) + jI 1) / jI 2 = jI (((lo + hi + 1) / 2 : Nat) : Int) := by
          rw [jI_add, jI_add, jI_div (by omega) (by omega) (by decide) (by decide), Int.tdiv_eq_ediv_of_nonneg (by omega)]
          congr 1
        have hmid1 : lo < (lo + hi + 1) / 2 := by omega
        have hmid2 : (lo + hi + 1) / 2 ≤ hi := by omega
        generalize (lo + hi + 1) / 2 = md at em hmid1 hmid2
        have r23 : ∀ (mI : Int32), mI = jI md → Run 23 [some (.ref 46), some (.ref c), some (.int (jI lo)), some (.int (jI hi)), some (.int mI)] [] h (0, 0) := by
          rintro mI rfl
          have c70 := ct_70 G L hA.tl (a := (A k).1) (b := (A k).2) (k := md) (ta_at A (show md < n by omega)) (by omega) (by omega)
          rw [← ea, ← eb] at c70
          refine hR 60 18 _ _ _ _ _ _ rfl ?_
          refine ⟨fk, fk, L.K 46 rfl, jcall c70 ?_⟩
          by_cases hb : (A k).1 < (A md).1 ∨ ((A k).1 = (A md).1 ∧ (A k).2 < (A md).2)
          · rw [if_pos hb]
            have hkm : k < md := by
              rcases Nat.lt_trichotomy k md with z | z | z
              · exact z
              · subst z
                omega
              · have := hS md k z hk
                omega
            refine ⟨fun c2 => absurd c2 (by decide), fun c2 => ?_⟩
            refine ih lo (md - 1) _ _ _ (by omega) h3 (by omega) (by omega) rfl ?_
            rw [jI_sub]
            congr 1
            omega
          · rw [if_neg hb]
            have hkm : md ≤ k := by
              rcases Nat.lt_or_ge k md with z | z
              · exact absurd (hS k md z (by omega)) hb
              · exact z
            refine ⟨fun c2 => ?_, fun c2 => absurd rfl c2⟩
            refine hR 60 33 _ _ _ _ _ _ rfl ?_
            exact ih md hi _ _ _ (by omega) hkm h4 h5 rfl rfl
        exact r23 _ em
  refine hR 60 0 _ _ _ _ _ _ rfl ?_
  refine ⟨L.K 46 rfl, ?_⟩
  rw [hA.1]
  refine loop n 0 (n - 1) _ _ _ (by omega) (by omega) (by omega) (by omega) rfl ?_
  rw [jI_sub]
  congr 1
  omega
/-- classes so far, with their names -/
def isCl (h : mj_H) (n : Nat) (cls : Nat → Int) (cnt : Nat) (nm : Nat → Nat) : Prop := hI h 46 5 = jI cnt ∧ (∀ i, i < n → hI h 49 i = jI (cls i)) ∧ ∀ i, i < cnt → hI h 50 i = jI (nm i)
/-- the forms of the table, their ring, and where they go on -/
def isNx (d w : Int) (n : Nat) (A : Nat → pI) (nxt : Nat → Nat) : Prop := ∀ i, i < n → nxt i < n ∧ (A i).1 ≠ 0 ∧ okF (fmP d (A i)) ∧ (0 < d → nx d w (fmP d (A i)) = fmP d (A (nxt i))) ∧ (d ≤ 0 → nxt i = i)
def umN (n : Nat) (cls : Nat → Int) : Nat := suN (fun i => if cls i = -1 then 1 else 0) n
theorem umN_le (cls : Nat → Int) : ∀ n, umN n cls ≤ n
  | 0 => Nat.le_refl _
  | n + 1 => by
    have := umN_le cls n
    show umN n cls + (if cls n = -1 then 1 else 0) ≤ n + 1
    split <;> omega
theorem umN_up {n at' : Nat} {cls : Nat → Int} {c : Int} (ha : at' < n) (h1 : cls at' = -1) (hc : c ≠ -1) : umN n (upN cls at' c) + 1 = umN n cls := by
  have := foN_upd (e := 0) (f := fun i => if upN cls at' c i = -1 then 1 else 0) (g := fun i => if cls i = -1 then 1 else 0) (t := at') Nat.add_comm Nat.add_assoc n ha (by
    intro i hi hne
    unfold upN
    simp only [if_neg hne])
  have e1 : (if cls at' = -1 then 1 else 0) = 1 := if_pos h1
  have e2 : (if upN cls at' c at' = -1 then 1 else 0) = 0 := by
    unfold upN
    rw [if_pos rfl, if_neg hc]
  simp only [e1, e2] at this
  exact this
def wkC (nxt : Nat → Nat) (c : Int) : Nat → Nat → (Nat → Int) → (Nat → Int)
  | 0, _, cls => cls
  | f + 1, at', cls => if cls at' = -1 then wkC nxt c f (nxt at') (upN cls at' c) else cls
abbrev inWk (a : Nat) : Prop := a = 46 ∨ a = 49 ∨ a = 50 ∨ a = 51
theorem ta_fr {h h' : mj_H} {n : Nat} {A : Nat → pI} (a : isTa h n A) (e1 : hI h' 46 1 = hI h 46 1) (e2 : h'.1 47 = h.1 47) (e3 : h'.1 48 = h.1 48) : isTa h' n A := by
  obtain ⟨a1, a2, a3⟩ := a
  refine ⟨e1.trans a1, a2, fun i hi => ?_⟩
  obtain ⟨b1, b2, b3⟩ := a3 i hi
  exact ⟨(congrFun e2 i).trans b1, (congrFun e3 i).trans b2, b3⟩
/-- FormHouse$Table.walk(I)V; cuts at [19, 21, 42, 78] -/
def cl_71_2 : List mj_E := (84, false, .iadd, 1, 0, 0, 0, 0, 0) ::
  (85, false, .putfield 41, 3, 7, 5, 0, 0, 0) ::
  (88, false, .return_, 1, 0, 0, 0, 0, 0) ::
  []
def cl_71_1 : List mj_E := (40, false, .i2s, 1, 0, 0, 0, 0, 0) ::
  (41, false, .sastore, 1, 0, 0, 0, 0, 0) ::
  (42, true, .aload_n 0, 1, 0, 0, 0, 0, 0) ::
  (43, false, .getfield 33, 3, 7, 0, 2, 0, 0) ::
  (46, false, .getfield 44, 3, 3, 0, 1, 0, 0) ::
  (49, false, .lconst 0, 1, 0, 0, 0, 0, jL 0) ::
  (50, false, .lcmp, 1, 0, 0, 0, 0, 0) ::
  (51, false, .ifCond .le (-30), 3, 13, 0, 0, 0, 0) ::
  (54, false, .aload_n 0, 1, 0, 0, 0, 0, 0) ::
  (55, false, .getfield 33, 3, 7, 0, 2, 0, 0) ::
  (58, false, .aload_n 0, 1, 0, 0, 0, 0, 0) ::
  (59, false, .getfield 29, 3, 7, 7, 2, 0, 0) ::
  (62, false, .invokevirtual 108, 3, 27, 1, 3, 0, 0) ::
  (65, false, .lstore_n 3, 1, 0, 0, 0, 0, 0) ::
  (66, false, .aload_n 0, 1, 0, 0, 0, 0, 0) ::
  (67, false, .aload_n 0, 1, 0, 0, 0, 0, 0) ::
  (68, false, .getfield 29, 3, 7, 7, 2, 0, 0) ::
  (71, false, .invokevirtual 112, 3, 73, 1, 7, 0, 0) ::
  (74, false, .istore_n 2, 1, 0, 0, 0, 0, 0) ::
  (75, false, .goto (-54), 3, 13, 0, 0, 0, 0) ::
  (78, true, .aload_n 0, 1, 0, 0, 0, 0, 0) ::
  (79, false, .dup, 1, 0, 0, 0, 0, 0) ::
  (80, false, .getfield 41, 3, 7, 5, 0, 0, 0) ::
  (83, false, .iconst 1, 1, 0, 0, 0, jI 1, 0) ::
  cl_71_2
def cl_71_0 : List mj_E := (0, false, .aload_n 0, 1, 0, 0, 0, 0, 0) ::
  (1, false, .getfield 23, 3, 7, 6, 2, 0, 0) ::
  (4, false, .aload_n 0, 1, 0, 0, 0, 0, 0) ::
  (5, false, .getfield 41, 3, 7, 5, 0, 0, 0) ::
  (8, false, .iload_n 1, 1, 0, 0, 0, 0, 0) ::
  (9, false, .iastore, 1, 0, 0, 0, 0, 0) ::
  (10, false, .aload_n 0, 1, 0, 0, 0, 0, 0) ::
  (11, false, .iload_n 1, 1, 0, 0, 0, 0, 0) ::
  (12, false, .aload_n 0, 1, 0, 0, 0, 0, 0) ::
  (13, false, .getfield 29, 3, 7, 7, 2, 0, 0) ::
  (16, false, .invokevirtual 104, 3, 72, 2, 7, 0, 0) ::
  (19, true, .iload_n 1, 1, 0, 0, 0, 0, 0) ::
  (20, false, .istore_n 2, 1, 0, 0, 0, 0, 0) ::
  (21, true, .aload_n 0, 1, 0, 0, 0, 0, 0) ::
  (22, false, .getfield 19, 3, 7, 4, 2, 0, 0) ::
  (25, false, .iload_n 2, 1, 0, 0, 0, 0, 0) ::
  (26, false, .saload, 1, 0, 0, 0, 0, 0) ::
  (27, false, .iconst (-1), 1, 0, 0, 0, jI (-1), 0) ::
  (28, false, .if_icmp .ne 50, 3, 44, 0, 0, 0, 0) ::
  (31, false, .aload_n 0, 1, 0, 0, 0, 0, 0) ::
  (32, false, .getfield 19, 3, 7, 4, 2, 0, 0) ::
  (35, false, .iload_n 2, 1, 0, 0, 0, 0, 0) ::
  (36, false, .aload_n 0, 1, 0, 0, 0, 0, 0) ::
  (37, false, .getfield 41, 3, 7, 5, 0, 0, 0) ::
  cl_71_1
def cd_71 : List mj_E := cl_71_0
def cx_71 : mj_X := (0, [], [])
theorem tb_71 : mj_tab (mj_mt 71) cx_71 cd_71 mj_mh [(0, 0, 0), (2002, 0, 0), (0, 0, 0), (1239, 0, 0), (0, 0, 0), (0, 0, 0), (0, 0, 0), (0, 0, 0), (0, 0, 0), (2003, 0, 0), (4082, 0, 0), (0, 0, 0), (0, 0, 0), (0, 0, 0), (1238, 0, 0), (0, 0, 0), (0, 0, 0), (0, 0, 0), (0, 0, 0), (0, 0, 0), (1238, 0, 0), (0, 0, 0), (0, 0, 0), (1239, 0, 0), (0, 0, 0), (0, 0, 0), (0, 0, 0), (1232, 0, 0), (1071, 0, 0), (0, 0, 0), (0, 0, 0), (0, 0, 0), (0, 0, 0), (1232, 0, 0), (0, 0, 0), (2003, 0, 0), (4086, 0, 0), (0, 0, 0), (0, 0, 0), (0, 0, 0), (2003, 0, 0), (4087, 0, 0), (0, 0, 0), (0, 0, 0), (0, 0, 0), (0, 0, 0), (1239, 0, 0), (0, 0, 0), (0, 0, 0), (1239, 0, 0), (0, 0, 0)] = true := mj_tab_f (by decide +kernel)
theorem ct_71 (G : mj_G) {h : mj_H} (L : isLay h) {n : Nat} {A : Nat → pI} (hA : isTa h n A) (hS : sst n A) {d w : Int} (hr : isRr h 7 d w) (hd : -1099511627776 < d ∧ d < 1099511627776) (hw : -1 ≤ w ∧ w < 2147483648) {nxt : Nat → Nat} (hx : isNx d w n A nxt) {cls : Nat → Int} {cnt : Nat} {nm : Nat → Nat} (hc : isCl h n cls cnt nm) (hrng : ∀ i, i < n → -1 ≤ cls i ∧ cls i < 32768) (hcnt : cnt < 4096) {k : Nat} (hk : k < n) : mj_Ct G (mj_mt 71) 0 0 [.ref 46, .int (jI k)] h (fun o h' => o = .returned none ∧ isCl h' n (wkC nxt cnt (n + 1) k cls) (cnt + 1) (upN nm cnt k) ∧ isTa h' n A ∧ Fr inWk noT h h') := by
  have hn := hA.2.1
  refine mj_Ct_of mj_ok tb_71 rfl rfl (Nat.le_of_ble_eq_true rfl) (fun Run hR => ?_)
  have r78 : ∀ (cl : Nat → Int) (h' : mj_H) (x2 x3 x4 : Option Value), isCl h' n cl cnt (upN nm cnt k) → hI h' 50 cnt = jI k → isTa h' n A → Fr inWk noT h h' → cl = wkC nxt cnt (n + 1) k cls → Run 78 [some (.ref 46), some (.int (jI k)), x2, x3, x4] [] h' (0, 0) := by
    rintro cl h' x2 x3 x4 hc' hnm hA' F rfl
    have L0 := L.F F (fun _ z => z.elim)
    refine hR 60 44 _ _ _ _ _ _ rfl ?_
    refine ⟨L0.K 46 rfl, L0.K 46 rfl, ?_⟩
    refine ⟨rfl, ⟨?_, ?_, ?_⟩, ?_, F.sI (by omega) _ _⟩
    · rw [sI_at, hc'.1, jI_add]
      rfl
    · intro i hi
      rw [← hc'.2.1 i hi]
      exact congrFun (sI_a _ (by decide) _ _) i
    · intro i hi
      rw [show hI (sI h' 46 5 (hI h' 46 5 + jI 1)) 50 i = hI h' 50 i from congrFun (sI_a _ (by decide) _ _) i]
      by_cases e : i = cnt
      · subst e
        unfold upN
        rw [if_pos rfl]
        exact hnm
      · exact hc'.2.2 i (by omega)
    · exact ta_fr hA' (sI_k _ _ (by decide) _) (sI_a _ (by decide) _ _) (sI_a _ (by decide) _ _)
  have loop : ∀ (f at' : Nat) (aI : Int32) (cl : Nat → Int) (h' : mj_H) (x3 x4 : Option Value), umN n cl < f → at' < n → (∀ i, i < n → -1 ≤ cl i ∧ cl i < 32768) → isCl h' n cl cnt (upN nm cnt k) → hI h' 50 cnt = jI k → isTa h' n A → isFm h' 51 (fmP d (A at')) → isRr h' 7 d w → Fr inWk noT h h' → wkC nxt cnt f at' cl = wkC nxt cnt (n + 1) k cls → aI = jI at' → Run 21 [some (.ref 46), some (.int (jI k)), some (.int aI), x3, x4] [] h' (0, 0) := by
    intro f
    induction f with
    | zero => intro at' aI cl h' x3 x4 hu; omega
    | succ f ih =>
      rintro at' aI cl h' x3 x4 hu hat hrg hc' hnm hA' hg hr' F he rfl
      have L0 := L.F F (fun _ z => z.elim)
      have vin : vp_in (jI at') (hN h' 49) := by
        rw [show hN h' 49 = 40960 from L0.N 48 rfl]
        exact jI_in (by omega) (by omega) (by omega)
      have nat : (jI (at' : Int)).toNatClampNeg = at' := by rw [jI_nat (by omega) (by omega), Int.toNat_natCast]
      have hca := hc'.2.1 at' hat
      have hcr := hrg at' hat
      refine hR 60 13 _ _ _ _ _ _ rfl ?_
      refine ⟨L0.K 46 rfl, _, L0.R 46 4 _ rfl, L0.K 49 rfl, vin, ?_⟩
      rw [nat, hca]
      refine ⟨fun c => ?_, fun c => ?_⟩
      · simp (disch := omega) only [mj_lcm, jI_lt, jI_le, jI_eq, jL_lt, jL_le, jL_eq, jI_lt0, jI_0le, jI_0lt, jI_le0, jI_eq0, jL_eq0, jI_L, jI_add, jI_sub, jI_mul, jI_neg, jL_add, jL_sub, jL_mul, jL_neg, jL_I, jI_div, jI_mod, jL_div, jL_mod] at c
        refine ⟨L0.K 46 rfl, _, L0.R 46 4 _ rfl, L0.K 46 rfl, ?_⟩
        rw [hc'.1]
        refine ⟨L0.K 49 rfl, vin, ?_⟩
        rw [nat, jI_s (by omega) (by omega), jI_s (by omega) (by omega)]
        have F2 : Fr inWk noT h (sI h' 49 at' (jI cnt)) := F.sI (by omega) _ _
        have q2 : Fr (fun a => a = 49) noT h' (sI h' 49 at' (jI cnt)) := (Fr.refl (fun a => a = 49) noT h').sI rfl _ _
        have hcl2 : isCl (sI h' 49 at' (jI cnt)) n (upN cl at' cnt) cnt (upN nm cnt k) := by
          refine ⟨?_, ?_, ?_⟩
          · rw [← hc'.1]
            exact congrFun (sI_a _ (by decide) _ _) 5
          · intro i hi
            unfold upN
            by_cases e : i = at'
            · subst e
              rw [if_pos rfl]
              exact sI_at _ _ _ _
            · rw [if_neg e]
              exact (sI_k _ _ e _).trans (hc'.2.1 i hi)
          · intro i hi
            rw [← hc'.2.2 i hi]
            exact congrFun (sI_a _ (by decide) _ _) i
        have hnm2 : hI (sI h' 49 at' (jI cnt)) 50 cnt = jI k := (congrFun (sI_a _ (by decide) _ _) _).trans hnm
        have hA2 : isTa (sI h' 49 at' (jI cnt)) n A := ta_fr hA' (congrFun (sI_a _ (by decide) _ _) 1) (sI_a _ (by decide) _ _) (sI_a _ (by decide) _ _)
        have hg2 := hg.F q2 (by omega)
        have hr2 := hr'.F q2 (by omega)
        generalize sI h' 49 at' (jI cnt) = h2 at F2 q2 hcl2 hnm2 hA2 hg2 hr2
        have L2 := L.F F2 (fun _ z => z.elim)
        have hum := umN_up (n := n) (cls := cl) (c := (cnt : Int)) hat c (by omega)
        have hrg2 : ∀ i, i < n → -1 ≤ upN cl at' cnt i ∧ upN cl at' cnt i < 32768 := by
          intro i hi
          unfold upN
          split
          · omega
          · exact hrg i hi
        obtain ⟨x1, x2, x3', x4', x5⟩ := hx at' hat
        have he2 : wkC nxt cnt f (nxt at') (upN cl at' cnt) = wkC nxt cnt (n + 1) k cls := by
          rw [← he]
          show _ = if cl at' = -1 then wkC nxt cnt f (nxt at') (upN cl at' cnt) else cl
          rw [if_pos c]
        have r42 : Run 42 [some (.ref 46), some (.int (jI k)), some (.int (jI at')), x3, x4] [] h2 (0, 0) := by
          refine hR 60 26 _ _ _ _ _ _ rfl ?_
          refine ⟨L2.K 46 rfl, _, L2.R 46 0 _ rfl, L2.K 7 rfl, ?_⟩
          rw [hr2.2.1]
          refine ⟨fun c2 => ?_, fun c2 => ?_⟩
          · simp (disch := omega) only [mj_lcm, jI_lt, jI_le, jI_eq, jL_lt, jL_le, jL_eq, jI_lt0, jI_0le, jI_0lt, jI_le0, jI_eq0, jL_eq0, jI_L, jI_add, jI_sub, jI_mul, jI_neg, jL_add, jL_sub, jL_mul, jL_neg, jL_I, jI_div, jI_mod, jL_div, jL_mod] at c2
            have enx := x5 c2
            rw [enx] at he2
            exact ih at' _ _ h2 _ _ (by omega) hat hrg2 hcl2 hnm2 hA2 hg2 hr2 F2 he2 rfl
          · simp (disch := omega) only [mj_lcm, jI_lt, jI_le, jI_eq, jL_lt, jL_le, jL_eq, jI_lt0, jI_0le, jI_0lt, jI_le0, jI_eq0, jL_eq0, jI_L, jI_add, jI_sub, jI_mul, jI_neg, jL_add, jL_sub, jL_mul, jL_neg, jL_I, jI_div, jI_mod, jL_div, jL_mod] at c2
            have enx := x4' (by omega)
            refine ⟨L2.K 46 rfl, _, L2.R 46 0 _ rfl, L2.K 46 rfl, _, L2.R 46 7 _ rfl, L2.K 7 rfl, jcallW (ct_27' G hr2 hg2 hd hw x3') ?_⟩
            rw [enx]
            have F3 : Fr inWk noT h (sFm h2 51 (fmP d (A (nxt at')))) := F2.sFm (by omega) _
            have q3 : Fr (fun a => a = 51) noT h2 (sFm h2 51 (fmP d (A (nxt at')))) := (Fr.refl (fun a => a = 51) noT h2).sFm rfl _
            have hg3 := isFm_sFm h2 (L2.K 51 rfl) (fmP d (A (nxt at')))
            have hA3 : isTa (sFm h2 51 (fmP d (A (nxt at')))) n A := ta_fr hA2 rfl rfl rfl
            have hcl3 : isCl (sFm h2 51 (fmP d (A (nxt at')))) n (upN cl at' cnt) cnt (upN nm cnt k) := hcl2
            have hnm3 : hI (sFm h2 51 (fmP d (A (nxt at')))) 50 cnt = jI k := hnm2
            have hr3 := hr2.F q3 (by omega)
            generalize sFm h2 51 (fmP d (A (nxt at'))) = h3 at F3 q3 hg3 hA3 hcl3 hnm3 hr3
            have L3 := L.F F3 (fun _ z => z.elim)
            have c73 := ct_73 G L3 hA3 hS (c := 51) (k := nxt at') hg3 x1 rfl rfl
            refine ⟨L3.K 46 rfl, _, L3.R 46 7 _ rfl, L3.K 46 rfl, jcall c73 ?_⟩
            exact ih (nxt at') _ _ h3 _ _ (by omega) x1 hrg2 hcl3 hnm3 hA3 hg3 hr3 F3 he2 rfl
        exact r42
      · simp (disch := omega) only [mj_lcm, jI_lt, jI_le, jI_eq, jL_lt, jL_le, jL_eq, jI_lt0, jI_0le, jI_0lt, jI_le0, jI_eq0, jL_eq0, jI_L, jI_add, jI_sub, jI_mul, jI_neg, jL_add, jL_sub, jL_mul, jL_neg, jL_I, jI_div, jI_mod, jL_div, jL_mod] at c
        refine r78 cl h' _ _ _ hc' hnm hA' F ?_
        rw [← he]
        show cl = if cl at' = -1 then _ else cl
        rw [if_neg c]
  have r19 : ∀ (h' : mj_H) (x2 x3 x4 : Option Value), isCl h' n cls cnt (upN nm cnt k) → hI h' 50 cnt = jI k → isTa h' n A → isFm h' 51 (fmP d (A k)) → isRr h' 7 d w → Fr inWk noT h h' → Run 19 [some (.ref 46), some (.int (jI k)), x2, x3, x4] [] h' (0, 0) := by
    intro h' x2 x3 x4 hc' hnm hA' hg hr' F
    refine hR 60 11 _ _ _ _ _ _ rfl ?_
    have := umN_le cls n
    exact loop (n + 1) k _ cls h' _ _ (by omega) hk hrng hc' hnm hA' hg hr' F rfl rfl
  have vin : vp_in (jI cnt) (hN h 50) := by
    rw [show hN h 50 = 4096 from L.N 49 rfl]
    exact jI_in (by omega) (by omega) (by omega)
  have nat : (jI (cnt : Int)).toNatClampNeg = cnt := by rw [jI_nat (by omega) (by omega), Int.toNat_natCast]
  refine hR 60 0 _ _ _ _ _ _ rfl ?_
  refine ⟨L.K 46 rfl, _, L.R 46 6 _ rfl, L.K 46 rfl, ?_⟩
  rw [hc.1]
  refine ⟨L.K 50 rfl, vin, ?_⟩
  rw [nat]
  have F1 : Fr inWk noT h (sI h 50 cnt (jI k)) := (Fr.refl inWk noT h).sI (by omega) _ _
  have q1 : Fr (fun a => a = 50) noT h (sI h 50 cnt (jI k)) := (Fr.refl (fun a => a = 50) noT h).sI rfl _ _
  have hA1 : isTa (sI h 50 cnt (jI k)) n A := ta_fr hA (congrFun (sI_a _ (by decide) _ _) 1) (sI_a _ (by decide) _ _) (sI_a _ (by decide) _ _)
  have hc1 : isCl (sI h 50 cnt (jI k)) n cls cnt (upN nm cnt k) := by
    refine ⟨?_, ?_, ?_⟩
    · rw [← hc.1]
      exact congrFun (sI_a _ (by decide) _ _) 5
    · intro i hi
      rw [← hc.2.1 i hi]
      exact congrFun (sI_a _ (by decide) _ _) i
    · intro i hi
      unfold upN
      rw [if_neg (by omega)]
      exact (sI_k _ _ (by omega) _).trans (hc.2.2 i hi)
  have hnm1 : hI (sI h 50 cnt (jI k)) 50 cnt = jI k := sI_at _ _ _ _
  have hr1 := hr.F q1 (by omega)
  generalize sI h 50 cnt (jI k) = h1 at F1 q1 hA1 hc1 hnm1 hr1
  have L1 := L.F F1 (fun _ z => z.elim)
  obtain ⟨x1, x2, x3, x4, x5⟩ := hx k hk
  refine ⟨L1.K 46 rfl, _, L1.R 46 7 _ rfl, L1.K 46 rfl, jcallV (ct_72 G L1 hA1.tl hr1 hd (ta_at A hk) x2 (L1.K 51 rfl)) ?_⟩
  have q2 : Fr (fun a => a = 51) noT h1 (sFm h1 51 (fmP d (A k))) := (Fr.refl (fun a => a = 51) noT h1).sFm rfl _
  exact r19 _ _ _ _ hc1 hnm1 (ta_fr hA1 rfl rfl rfl) (isFm_sFm h1 (L1.K 51 rfl) _) (hr1.F q2 (by omega)) (F1.sFm (by omega) _)
/-- FormHouse$Table.classOf(LFormHouse$Form;)I; cuts at [] -/
def cd_75 : List mj_E := [(0, false, .aload_n 0, 1, 0, 0, 0, 0, 0),
  (1, false, .getfield 33, 3, 7, 0, 2, 0, 0),
  (4, false, .aload_n 1, 1, 0, 0, 0, 0, 0),
  (5, false, .invokevirtual 116, 3, 76, 1, 3, 0, 0),
  (8, false, .istore_n 2, 1, 0, 0, 0, 0, 0),
  (9, false, .aload_n 0, 1, 0, 0, 0, 0, 0),
  (10, false, .getfield 19, 3, 7, 4, 2, 0, 0),
  (13, false, .aload_n 0, 1, 0, 0, 0, 0, 0),
  (14, false, .aload_n 1, 1, 0, 0, 0, 0, 0),
  (15, false, .invokevirtual 112, 3, 73, 1, 7, 0, 0),
  (18, false, .saload, 1, 0, 0, 0, 0, 0),
  (19, false, .ireturn, 1, 0, 0, 0, 0, 0)]
def cx_75 : mj_X := (1, [], [])
theorem tb_75 : mj_tab (mj_mt 75) cx_75 cd_75 mj_mh [(0, 0, 0), (1232, 0, 0), (0, 0, 0), (4101, 0, 0), (0, 0, 0), (0, 0, 0), (1238, 0, 0), (0, 0, 0), (0, 0, 0), (4087, 0, 0), (0, 0, 0), (0, 0, 0)] = true := mj_tab_f (by decide +kernel)
theorem ct_75 (G : mj_G) {h : mj_H} (L : isLay h) {n : Nat} {A : Nat → pI} (hA : isTa h n A) (hS : sst n A) {d w : Int} (hr : isRr h 7 d w) (hd : -1099511627776 < d ∧ d < 1099511627776) (hw : -1 ≤ w ∧ w < 2147483648) {cls : Nat → Int} {cnt : Nat} {nm : Nat → Nat} (hc : isCl h n cls cnt nm) {f m k : Nat} {g : Fm} (hf : isFm h f g) (hne : f ≠ 7) (ht : trm d w m g) (hm : m < 2147483648) (hk : k < n) (h1 : (itF d w m g).1 = (A k).1) (h2 : (itF d w m g).2.1 = (A k).2) : mj_Ct G (mj_mt 75) 0 0 [.ref 46, .ref f] h (fun o h' => o = .returned (some (.int (jI (cls k)))) ∧ h' = sFm h f (itF d w m g)) := by
  have hn := hA.2.1
  refine mj_Ct_of mj_ok tb_75 rfl rfl (Nat.le_of_ble_eq_true rfl) (fun Run hR => ?_)
  refine hR 40 0 _ _ _ _ _ _ rfl ?_
  refine ⟨L.K 46 rfl, _, L.R 46 0 _ rfl, L.K 7 rfl, jcallP (ct_76 G hr hf (by omega) hd hw ht hm) ?_⟩
  rintro o h2' ⟨rfl, rfl⟩
  have F1 : Fr (fun a => a = f) noT h (sFm h f (itF d w m g)) := (Fr.refl (fun a => a = f) noT h).sFm rfl _
  have L1 := L.F F1 (fun _ z => z.elim)
  have hA1 : isTa (sFm h f (itF d w m g)) n A := ta_fr hA rfl rfl rfl
  have c73 := ct_73 G L1 hA1 hS (c := f) (k := k) (isFm_sFm h hf.1 _) hk h1 h2
  refine ⟨L1.K 46 rfl, _, L1.R 46 4 _ rfl, L1.K 46 rfl, jcall c73 ?_⟩
  refine ⟨L1.K 49 rfl, ?_, ?_⟩
  · rw [show hN (sFm h f (itF d w m g)) 49 = 40960 from L1.N 48 rfl]
    exact jI_in (by omega) (by omega) (by omega)
  · rw [jI_nat (by omega) (by omega), Int.toNat_natCast]
    refine ⟨?_, rfl⟩
    rw [show hI (sFm h f (itF d w m g)) 49 k = jI (cls k) from hc.2.1 k hk]
