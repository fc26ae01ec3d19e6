/-! contracts: the table of reduced forms -/
abbrev pI : Type := Int × Int
/-- the forms that are listed so far -/
def isTl (h : mj_H) (l : List pI) : Prop := hI h 46 1 = jI l.length ∧ l.length ≤ 40960 ∧ ∀ i p, l[i]? = some p → hI h 47 i = jI p.1 ∧ hI h 48 i = jI p.2 ∧ (-1073741824 < p.1 ∧ p.1 < 1073741824) ∧ (-1073741824 < p.2 ∧ p.2 < 1073741824)
theorem isTl.F {S T : Nat → Prop} {h h' : mj_H} (f : Fr S T h h') {l : List pI} (a : isTl h l) (h1 : ¬ S 46) (h2 : ¬ S 47) (h3 : ¬ S 48) : isTl h' l := by
  obtain ⟨a1, a2, a3⟩ := a
  refine ⟨(f.I h1 _).trans a1, a2, fun i p hp => ?_⟩
  obtain ⟨b1, b2, b3⟩ := a3 i p hp
  exact ⟨(f.I h2 _).trans b1, (f.I h3 _).trans b2, b3⟩
theorem lt_of_some {α : Type} {l : List α} {i : Nat} {p : α} (h : l[i]? = some p) : i < l.length := by
  rcases Nat.lt_or_ge i l.length with g | g
  · exact g
  · rw [List.getElem?_eq_none g] at h
    exact absurd h (by simp)
def bf2 (a b : Int) (p : pI) : Prop := a < p.1 ∨ (a = p.1 ∧ b < p.2)
/-- FormHouse$Table.isBefore(III)Z; cuts at [] -/
def cd_70 : List mj_E := [(0, false, .iload_n 1, 1, 0, 0, 0, 0, 0),
  (1, false, .aload_n 0, 1, 0, 0, 0, 0, 0),
  (2, false, .getfield 10, 3, 7, 2, 2, 0, 0),
  (5, false, .iload_n 3, 1, 0, 0, 0, 0, 0),
  (6, false, .iaload, 1, 0, 0, 0, 0, 0),
  (7, false, .if_icmp .lt 23, 3, 18, 0, 0, 0, 0),
  (10, false, .iload_n 1, 1, 0, 0, 0, 0, 0),
  (11, false, .aload_n 0, 1, 0, 0, 0, 0, 0),
  (12, false, .getfield 10, 3, 7, 2, 2, 0, 0),
  (15, false, .iload_n 3, 1, 0, 0, 0, 0, 0),
  (16, false, .iaload, 1, 0, 0, 0, 0, 0),
  (17, false, .if_icmp .ne 17, 3, 20, 0, 0, 0, 0),
  (20, false, .iload_n 2, 1, 0, 0, 0, 0, 0),
  (21, false, .aload_n 0, 1, 0, 0, 0, 0, 0),
  (22, false, .getfield 16, 3, 7, 3, 2, 0, 0),
  (25, false, .iload_n 3, 1, 0, 0, 0, 0, 0),
  (26, false, .iaload, 1, 0, 0, 0, 0, 0),
  (27, false, .if_icmp .ge 7, 3, 20, 0, 0, 0, 0),
  (30, false, .iconst 1, 1, 0, 0, 0, jI 1, 0),
  (31, false, .goto 4, 3, 21, 0, 0, 0, 0),
  (34, false, .iconst 0, 1, 0, 0, 0, jI 0, 0),
  (35, false, .ireturn, 1, 0, 0, 0, 0, 0)]
def cx_70 : mj_X := (4, [], [])
theorem tb_70 : mj_tab (mj_mt 70) cx_70 cd_70 mj_mh [(0, 0, 0), (0, 0, 0), (1236, 0, 0), (0, 0, 0), (0, 0, 0), (0, 0, 0), (0, 0, 0), (0, 0, 0), (1236, 0, 0), (0, 0, 0), (0, 0, 0), (0, 0, 0), (0, 0, 0), (0, 0, 0), (1237, 0, 0), (0, 0, 0), (0, 0, 0), (0, 0, 0), (0, 0, 0), (0, 0, 0), (0, 0, 0), (0, 0, 0)] = true := mj_tab_f (by decide +kernel)
theorem ct_70 (G : mj_G) {h : mj_H} (L : isLay h) {l : List pI} (hl : isTl h l) {a b : Int} {k : Nat} {p : pI} (hk : l[k]? = some p) (ha : -2147483648 ≤ a ∧ a < 2147483648) (hb : -2147483648 ≤ b ∧ b < 2147483648) : mj_Ct G (mj_mt 70) 0 0 [.ref 46, .int (jI a), .int (jI b), .int (jI k)] h (jR (.int (jI (if a < p.1 ∨ (a = p.1 ∧ b < p.2) then 1 else 0))) h) := by
  have hlt := lt_of_some hk
  obtain ⟨l1, l2, l3⟩ := hl
  obtain ⟨e1, e2, e3, e4⟩ := l3 k p hk
  have hi7 : vp_in (jI k) (hN h 47) := by
    rw [show hN h 47 = 40960 from L.N 46 rfl]
    exact jI_in (by omega) (by omega) (by omega)
  have hi8 : vp_in (jI k) (hN h 48) := by
    rw [show hN h 48 = 40960 from L.N 47 rfl]
    exact jI_in (by omega) (by omega) (by omega)
  have n7 : hI h 47 (jI k).toNatClampNeg = jI p.1 := by
    rw [jI_nat (by omega) (by omega), Int.toNat_natCast]
    exact e1
  have n8 : hI h 48 (jI k).toNatClampNeg = jI p.2 := by
    rw [jI_nat (by omega) (by omega), Int.toNat_natCast]
    exact e2
  refine mj_Ct_of mj_ok tb_70 rfl rfl (Nat.le_of_ble_eq_true rfl) (fun Run hR => ?_)
  refine hR 40 0 _ _ _ _ _ _ rfl ?_
  refine ⟨L.K 46 rfl, _, L.R 46 2 _ rfl, Or.inl (L.K 47 rfl), hi7, ?_⟩
  rw [n7]
  refine ⟨fun c => ⟨Or.inr rfl, ?_⟩, fun c => ⟨L.K 46 rfl, _, L.R 46 2 _ rfl, Or.inl (L.K 47 rfl), hi7, ?_⟩⟩
  · simp (disch := omega) only [mj_lcm, jI_lt, jI_le, jI_eq, jL_lt, jL_le, jL_eq, jI_lt0, jI_0le, jI_0lt, jI_le0, jI_eq0, jL_eq0, jI_L, jI_add, jI_sub, jI_mul, jI_neg, jL_add, jL_sub, jL_mul, jL_neg, jL_I, jI_div, jI_mod, jL_div, jL_mod] at c
    rw [if_pos (Or.inl c)]
    exact jRe rfl
  · rw [n7]
    refine ⟨fun c2 => ⟨L.K 46 rfl, _, L.R 46 3 _ rfl, Or.inl (L.K 48 rfl), hi8, ?_⟩, fun c2 => ⟨Or.inl rfl, ?_⟩⟩
    · rw [n8]
      refine ⟨fun c3 => ⟨Or.inl rfl, ?_⟩, fun c3 => ⟨Or.inr rfl, ?_⟩⟩
      · simp (disch := omega) only [mj_lcm, jI_lt, jI_le, jI_eq, jL_lt, jL_le, jL_eq, jI_lt0, jI_0le, jI_0lt, jI_le0, jI_eq0, jL_eq0, jI_L, jI_add, jI_sub, jI_mul, jI_neg, jL_add, jL_sub, jL_mul, jL_neg, jL_I, jI_div, jI_mod, jL_div, jL_mod] at c c2 c3
        rw [if_neg (by omega)]
        exact jRe rfl
      · simp (disch := omega) only [mj_lcm, jI_lt, jI_le, jI_eq, jL_lt, jL_le, jL_eq, jI_lt0, jI_0le, jI_0lt, jI_le0, jI_eq0, jL_eq0, jI_L, jI_add, jI_sub, jI_mul, jI_neg, jL_add, jL_sub, jL_mul, jL_neg, jL_I, jI_div, jI_mod, jL_div, jL_mod] at c c2 c3
        rw [if_pos (Or.inr ⟨by omega, by omega⟩)]
        exact jRe rfl
    · simp (disch := omega) only [mj_lcm, jI_lt, jI_le, jI_eq, jL_lt, jL_le, jL_eq, jI_lt0, jI_0le, jI_0lt, jI_le0, jI_eq0, jL_eq0, jI_L, jI_add, jI_sub, jI_mul, jI_neg, jL_add, jL_sub, jL_mul, jL_neg, jL_I, jI_div, jI_mod, jL_div, jL_mod] at c c2
      rw [if_neg (by omega)]
      exact jRe rfl
/-- the form of a place -/
def fmP (d : Int) (p : pI) : Fm := (p.1, p.2, (p.2 * p.2 - d).tdiv (4 * p.1))
/-- FormHouse$Table.form(ILFormHouse$Form;)V; cuts at [8, 17] -/
def cd_72 : List mj_E := [(0, false, .aload_n 0, 1, 0, 0, 0, 0, 0),
  (1, false, .getfield 10, 3, 7, 2, 2, 0, 0),
  (4, false, .iload_n 1, 1, 0, 0, 0, 0, 0),
  (5, false, .iaload, 1, 0, 0, 0, 0, 0),
  (6, false, .i2l, 1, 0, 0, 0, 0, 0),
  (7, false, .lstore_n 3, 1, 0, 0, 0, 0, 0),
  (8, true, .aload_n 0, 1, 0, 0, 0, 0, 0),
  (9, false, .getfield 16, 3, 7, 3, 2, 0, 0),
  (12, false, .iload_n 1, 1, 0, 0, 0, 0, 0),
  (13, false, .iaload, 1, 0, 0, 0, 0, 0),
  (14, false, .i2l, 1, 0, 0, 0, 0, 0),
  (15, false, .lstore 5, 2, 0, 0, 0, 0, 0),
  (17, true, .aload_n 2, 1, 0, 0, 0, 0, 0),
  (18, false, .lload_n 3, 1, 0, 0, 0, 0, 0),
  (19, false, .lload 5, 2, 0, 0, 0, 0, 0),
  (21, false, .lload 5, 2, 0, 0, 0, 0, 0),
  (23, false, .lload 5, 2, 0, 0, 0, 0, 0),
  (25, false, .lmul, 1, 0, 0, 0, 0, 0),
  (26, false, .aload_n 0, 1, 0, 0, 0, 0, 0),
  (27, false, .getfield 33, 3, 7, 0, 2, 0, 0),
  (30, false, .getfield 44, 3, 3, 0, 1, 0, 0),
  (33, false, .lsub, 1, 0, 0, 0, 0, 0),
  (34, false, .ldc2_w 68, 3, 0, 0, 0, 0, jL 4),
  (37, false, .lload_n 3, 1, 0, 0, 0, 0, 0),
  (38, false, .lmul, 1, 0, 0, 0, 0, 0),
  (39, false, .ldiv, 1, 0, 0, 0, 0, 0),
  (40, false, .invokevirtual 83, 3, 24, 3, 6, 0, 0),
  (43, false, .return_, 1, 0, 0, 0, 0, 0)]
def cx_72 : mj_X := (0, [], [])
theorem tb_72 : mj_tab (mj_mt 72) cx_72 cd_72 mj_mh [(0, 0, 0), (1236, 0, 0), (0, 0, 0), (0, 0, 0), (0, 0, 0), (0, 0, 0), (0, 0, 0), (1237, 0, 0), (0, 0, 0), (0, 0, 0), (0, 0, 0), (0, 0, 0), (0, 0, 0), (0, 0, 0), (0, 0, 0), (0, 0, 0), (0, 0, 0), (0, 0, 0), (0, 0, 0), (1232, 0, 0), (1071, 0, 0), (0, 0, 0), (4047, 0, 0), (0, 0, 0), (0, 0, 0), (0, 0, 0), (4057, 0, 0), (0, 0, 0)] = true := mj_tab_f (by decide +kernel)
theorem ct_72 (G : mj_G) {h : mj_H} (L : isLay h) {l : List pI} (hl : isTl h l) {d w : Int} (hr : isRr h 7 d w) (hd : -1099511627776 < d ∧ d < 1099511627776) {k f : Nat} {p : pI} (hk : l[k]? = some p) (hp : p.1 ≠ 0) (hf : hK h f = 16) : mj_Ct G (mj_mt 72) 0 0 [.ref 46, .int (jI k), .ref f] h (jV (sFm h f (fmP d p))) := by
  have hlt := lt_of_some hk
  obtain ⟨l1, l2, l3⟩ := hl
  obtain ⟨e1, e2, e3, e4⟩ := l3 k p hk
  obtain ⟨kr, r0, r1⟩ := hr
  have hsq : p.2 * p.2 ≤ 1073741824 * 1073741824 := by
    have := sq_le (x := (p.2.natAbs : Int)) (y := 1073741824) (by omega) (by omega)
    rw [← Int.natCast_mul, ← Int.natAbs_mul, Int.natAbs_of_nonneg (sqn p.2)] at this
    exact this
  have hsq0 := sqn p.2
  have hi7 : vp_in (jI k) (hN h 47) := by
    rw [show hN h 47 = 40960 from L.N 46 rfl]
    exact jI_in (by omega) (by omega) (by omega)
  have hi8 : vp_in (jI k) (hN h 48) := by
    rw [show hN h 48 = 40960 from L.N 47 rfl]
    exact jI_in (by omega) (by omega) (by omega)
  have n7 : (hI h 47 (jI k).toNatClampNeg).toInt64 = jL p.1 := by
    rw [jI_nat (by omega) (by omega), Int.toNat_natCast, show hI h 47 k = jI p.1 from e1, jI_L (by omega) (by omega)]
  have n8 : (hI h 48 (jI k).toNatClampNeg).toInt64 = jL p.2 := by
    rw [jI_nat (by omega) (by omega), Int.toNat_natCast, show hI h 48 k = jI p.2 from e2, jI_L (by omega) (by omega)]
  refine mj_Ct_of mj_ok tb_72 rfl rfl (Nat.le_of_ble_eq_true rfl) (fun Run hR => ?_)
  have r17 : ∀ (aL bL : Int64), aL = jL p.1 → bL = jL p.2 → Run 17 [some (.ref 46), some (.int (jI k)), some (.ref f), some (.long aL), none, some (.long bL), none] [] h (0, 0) := by
    rintro aL bL rfl rfl
    refine hR 40 12 _ _ _ _ _ _ rfl ?_
    refine ⟨L.K 46 rfl, _, L.R 46 0 _ rfl, L.K 7 rfl, ?_, hf, jcallV (ct_24 G hf _ _ _) ?_⟩
    · rw [jL_mul]
      simp (disch := omega) only [mj_lcm, jI_lt, jI_le, jI_eq, jL_lt, jL_le, jL_eq, jI_lt0, jI_0le, jI_0lt, jI_le0, jI_eq0, jL_eq0, jI_L, jI_add, jI_sub, jI_mul, jI_neg, jL_add, jL_sub, jL_mul, jL_neg, jL_I, jI_div, jI_mod, jL_div, jL_mod]
      omega
    · refine ⟨rfl, ?_⟩
      rw [r0, jL_mul, jL_mul, jL_sub, jL_div (by omega) (by omega) (by omega) (by omega)]
      rfl
  have r8 : ∀ (aL : Int64) (x5 x6 : Option Value), aL = jL p.1 → Run 8 [some (.ref 46), some (.int (jI k)), some (.ref f), some (.long aL), none, x5, x6] [] h (0, 0) := by
    rintro aL x5 x6 e
    refine hR 40 6 _ _ _ _ _ _ rfl ?_
    refine ⟨L.K 46 rfl, _, L.R 46 3 _ rfl, Or.inl (L.K 48 rfl), hi8, ?_⟩
    exact r17 _ _ e n8
  refine hR 40 0 _ _ _ _ _ _ rfl ?_
  refine ⟨L.K 46 rfl, _, L.R 46 2 _ rfl, Or.inl (L.K 47 rfl), hi7, ?_⟩
  exact r8 _ _ _ n7
/-- FormHouse$Table.name(ILFormHouse$Form;)V; cuts at [] -/
def cd_79 : List mj_E := [(0, false, .aload_n 0, 1, 0, 0, 0, 0, 0),
  (1, false, .aload_n 0, 1, 0, 0, 0, 0, 0),
  (2, false, .getfield 23, 3, 7, 6, 2, 0, 0),
  (5, false, .iload_n 1, 1, 0, 0, 0, 0, 0),
  (6, false, .iaload, 1, 0, 0, 0, 0, 0),
  (7, false, .aload_n 2, 1, 0, 0, 0, 0, 0),
  (8, false, .invokevirtual 104, 3, 72, 2, 7, 0, 0),
  (11, false, .return_, 1, 0, 0, 0, 0, 0)]
def cx_79 : mj_X := (0, [], [])
theorem tb_79 : mj_tab (mj_mt 79) cx_79 cd_79 mj_mh [(0, 0, 0), (0, 0, 0), (2002, 0, 0), (0, 0, 0), (0, 0, 0), (0, 0, 0), (4082, 0, 0), (0, 0, 0)] = true := mj_tab_f (by decide +kernel)
theorem ct_79 (G : mj_G) {h : mj_H} (L : isLay h) {l : List pI} (hl : isTl h l) {d w : Int} (hr : isRr h 7 d w) (hd : -1099511627776 < d ∧ d < 1099511627776) {c k f : Nat} {p : pI} (hc : c < 4096) (hn : hI h 50 c = jI k) (hk : l[k]? = some p) (hp : p.1 ≠ 0) (hf : hK h f = 16) : mj_Ct G (mj_mt 79) 0 0 [.ref 46, .int (jI c), .ref f] h (jV (sFm h f (fmP d p))) := by
  have hi : vp_in (jI c) (hN h 50) := by
    rw [show hN h 50 = 4096 from L.N 49 rfl]
    exact jI_in (by omega) (by omega) (by omega)
  have hv : hI h 50 (jI c).toNatClampNeg = jI k := by
    rw [jI_nat (by omega) (by omega), Int.toNat_natCast]
    exact hn
  refine mj_Ct_of mj_ok tb_79 rfl rfl (Nat.le_of_ble_eq_true rfl) (fun Run hR => ?_)
  refine hR 40 0 _ _ _ _ _ _ rfl ?_
  refine ⟨L.K 46 rfl, _, L.R 46 6 _ rfl, Or.inl (L.K 50 rfl), hi, ?_⟩
  rw [hv]
  refine ⟨L.K 46 rfl, jcallV (ct_72 G L hl hr hd hk hp hf) ?_⟩
  exact ⟨rfl, rfl⟩
/-- a form is taken, if it is reduced and primitive -/
def tkL (d w : Int) (f : Fm) (l : List pI) : List pI := if rdF d w f = true ∧ Int.gcd (Int.gcd f.1 f.2.1) f.2.2 = 1 then l ++ [(f.1, f.2.1)] else l
abbrev inTb (a : Nat) : Prop := a = 46 ∨ a = 47 ∨ a = 48 ∨ a = 51
/-- FormHouse$Table.take(JJJ)V; cuts at [37, 38, 49, 60] -/
def cl_65_1 : List mj_E := (47, false, .l2i, 1, 0, 0, 0, 0, 0) ::
  (48, false, .iastore, 1, 0, 0, 0, 0, 0) ::
  (49, true, .aload_n 0, 1, 0, 0, 0, 0, 0) ::
  (50, false, .getfield 16, 3, 7, 3, 2, 0, 0) ::
  (53, false, .aload_n 0, 1, 0, 0, 0, 0, 0) ::
  (54, false, .getfield 37, 3, 7, 1, 0, 0, 0) ::
  (57, false, .lload_n 3, 1, 0, 0, 0, 0, 0) ::
  (58, false, .l2i, 1, 0, 0, 0, 0, 0) ::
  (59, false, .iastore, 1, 0, 0, 0, 0, 0) ::
  (60, true, .aload_n 0, 1, 0, 0, 0, 0, 0) ::
  (61, false, .dup, 1, 0, 0, 0, 0, 0) ::
  (62, false, .getfield 37, 3, 7, 1, 0, 0, 0) ::
  (65, false, .iconst 1, 1, 0, 0, 0, jI 1, 0) ::
  (66, false, .iadd, 1, 0, 0, 0, 0, 0) ::
  (67, false, .putfield 37, 3, 7, 1, 0, 0, 0) ::
  (70, false, .return_, 1, 0, 0, 0, 0, 0) ::
  []
def cl_65_0 : List mj_E := (0, false, .aload_n 0, 1, 0, 0, 0, 0, 0) ::
  (1, false, .getfield 29, 3, 7, 7, 2, 0, 0) ::
  (4, false, .lload_n 1, 1, 0, 0, 0, 0, 0) ::
  (5, false, .lload_n 3, 1, 0, 0, 0, 0, 0) ::
  (6, false, .lload 5, 2, 0, 0, 0, 0, 0) ::
  (8, false, .invokevirtual 83, 3, 24, 3, 6, 0, 0) ::
  (11, false, .aload_n 0, 1, 0, 0, 0, 0, 0) ::
  (12, false, .getfield 33, 3, 7, 0, 2, 0, 0) ::
  (15, false, .aload_n 0, 1, 0, 0, 0, 0, 0) ::
  (16, false, .getfield 29, 3, 7, 7, 2, 0, 0) ::
  (19, false, .invokevirtual 86, 3, 66, 1, 3, 0, 0) ::
  (22, false, .ifCond .eq 15, 3, 18, 0, 0, 0, 0) ::
  (25, false, .aload_n 0, 1, 0, 0, 0, 0, 0) ::
  (26, false, .getfield 29, 3, 7, 7, 2, 0, 0) ::
  (29, false, .invokevirtual 90, 3, 67, 0, 6, 0, 0) ::
  (32, false, .lconst 1, 1, 0, 0, 0, 0, jL 1) ::
  (33, false, .lcmp, 1, 0, 0, 0, 0, 0) ::
  (34, false, .ifCond .eq 4, 3, 19, 0, 0, 0, 0) ::
  (37, true, .return_, 1, 0, 0, 0, 0, 0) ::
  (38, true, .aload_n 0, 1, 0, 0, 0, 0, 0) ::
  (39, false, .getfield 10, 3, 7, 2, 2, 0, 0) ::
  (42, false, .aload_n 0, 1, 0, 0, 0, 0, 0) ::
  (43, false, .getfield 37, 3, 7, 1, 0, 0, 0) ::
  (46, false, .lload_n 1, 1, 0, 0, 0, 0, 0) ::
  cl_65_1
def cd_65 : List mj_E := cl_65_0
def cx_65 : mj_X := (0, [], [])
theorem tb_65 : mj_tab (mj_mt 65) cx_65 cd_65 mj_mh [(0, 0, 0), (2003, 0, 0), (0, 0, 0), (0, 0, 0), (0, 0, 0), (4057, 0, 0), (0, 0, 0), (1232, 0, 0), (0, 0, 0), (2003, 0, 0), (4058, 0, 0), (0, 0, 0), (0, 0, 0), (2003, 0, 0), (4062, 0, 0), (0, 0, 0), (0, 0, 0), (0, 0, 0), (0, 0, 0), (0, 0, 0), (1236, 0, 0), (0, 0, 0), (1234, 0, 0), (0, 0, 0), (0, 0, 0), (0, 0, 0), (0, 0, 0), (1237, 0, 0), (0, 0, 0), (1234, 0, 0), (0, 0, 0), (0, 0, 0), (0, 0, 0), (0, 0, 0), (0, 0, 0), (1234, 0, 0), (0, 0, 0), (0, 0, 0), (1234, 0, 0), (0, 0, 0)] = true := mj_tab_f (by decide +kernel)
theorem ct_65 (G : mj_G) {h : mj_H} (L : isLay h) {l : List pI} (hl : isTl h l) {d w : Int} (hr : isRr h 7 d w) (hd : -1099511627776 < d ∧ d < 1099511627776) (hw : -1 ≤ w ∧ w < 2147483648) {f : Fm} (ha : -1073741824 < f.1 ∧ f.1 < 1073741824) (hb : -1073741824 < f.2.1 ∧ f.2.1 < 1073741824) (hc : -9223372036854775808 < f.2.2 ∧ f.2.2 < 9223372036854775808) (hn : (tkL d w f l).length ≤ 40960) : mj_Ct G (mj_mt 65) 0 0 [.ref 46, .long (jL f.1), .long (jL f.2.1), .long (jL f.2.2)] h (fun o h' => o = .returned none ∧ isTl h' (tkL d w f l) ∧ Fr inTb noT h h' ∧ hI h' 46 5 = hI h 46 5) := by
  refine mj_Ct_of mj_ok tb_65 rfl rfl (Nat.le_of_ble_eq_true rfl) (fun Run hR => ?_)
  have F1 : Fr inTb noT h (sFm h 51 f) := (Fr.refl inTb noT h).sFm (by omega) _
  have q1 : Fr (fun a => a = 51) noT h (sFm h 51 f) := (Fr.refl (fun a => a = 51) noT h).sFm rfl _
  have g1 := isFm_sFm h (L.K 51 rfl) f
  have eS : sF h 51 (jL f.1) (jL f.2.1) (jL f.2.2) = sFm h 51 f := rfl
  have c24 := ct_24 G (h := h) (f := 51) (L.K 51 rfl) (jL f.1) (jL f.2.1) (jL f.2.2)
  rw [eS] at c24
  have hl1 := hl.F q1 (by omega) (by omega) (by omega)
  have hr1 := hr.F q1 (by omega)
  have L1 := L.F F1 (fun _ z => z.elim)
  have e5 : hI (sFm h 51 f) 46 5 = hI h 46 5 := rfl
  generalize sFm h 51 f = h1 at F1 q1 g1 c24 hl1 hr1 L1 e5
  have keep : ¬ (rdF d w f = true ∧ Int.gcd (Int.gcd f.1 f.2.1) f.2.2 = 1) → tkL d w f l = l := fun z => by
    unfold tkL
    rw [if_neg z]
  have r37 : tkL d w f l = l → Run 37 [some (.ref 46), some (.long (jL f.1)), none, some (.long (jL f.2.1)), none, some (.long (jL f.2.2)), none] [] h1 (0, 0) := by
    intro e
    refine hR 40 18 _ _ _ _ _ _ rfl ?_
    refine ⟨rfl, ?_, F1, e5⟩
    rw [e]
    exact hl1
  have r38 : tkL d w f l = l ++ [(f.1, f.2.1)] → Run 38 [some (.ref 46), some (.long (jL f.1)), none, some (.long (jL f.2.1)), none, some (.long (jL f.2.2)), none] [] h1 (0, 0) := by
    intro e
    rw [e] at hn
    rw [List.length_append] at hn
    have hn2 : l.length < 40960 := by
      have : [(f.1, f.2.1)].length = 1 := rfl
      omega
    obtain ⟨l1, l2, l3⟩ := hl1
    have hin : vp_in (jI l.length) 40960 := jI_in (by omega) (by omega) (by omega)
    have hnt : (jI (l.length : Int)).toNatClampNeg = l.length := by rw [jI_nat (by omega) (by omega), Int.toNat_natCast]
    have r60 : Run 60 [some (.ref 46), some (.long (jL f.1)), none, some (.long (jL f.2.1)), none, some (.long (jL f.2.2)), none] [] (sI (sI h1 47 l.length (jI f.1)) 48 l.length (jI f.2.1)) (0, 0) := by
      refine hR 40 33 _ _ _ _ _ _ rfl ?_
      refine ⟨L1.K 46 rfl, L1.K 46 rfl, ?_⟩
      refine ⟨rfl, ⟨?_, ?_, ?_⟩, ((F1.sI (by omega) _ _).sI (by omega) _ _).sI (by omega) _ _, (sI_k _ _ (by decide) _).trans ((congrFun ((sI_a _ (by decide) _ _).trans (sI_a _ (by decide) _ _)) 5).trans e5)⟩
      · rw [sI_at, e, List.length_append]
        have h46 : hI (sI (sI h1 47 l.length (jI f.1)) 48 l.length (jI f.2.1)) 46 1 = jI l.length := by
          rw [← l1]
          exact congrFun ((sI_a _ (by decide) _ _).trans (sI_a _ (by decide) _ _)) 1
        rw [h46, jI_add]
        rfl
      · rw [e, List.length_append]
        exact hn
      · intro i p hp
        rw [e] at hp
        have e7 : ∀ i, (sI (sI (sI h1 47 l.length (jI f.1)) 48 l.length (jI f.2.1)) 46 1 (hI (sI (sI h1 47 l.length (jI f.1)) 48 l.length (jI f.2.1)) 46 1 + jI 1)).1 47 i = (sI h1 47 l.length (jI f.1)).1 47 i := fun i => congrFun ((sI_a _ (by decide) _ _).trans (sI_a _ (by decide) _ _)) i
        have e8 : ∀ i, (sI (sI (sI h1 47 l.length (jI f.1)) 48 l.length (jI f.2.1)) 46 1 (hI (sI (sI h1 47 l.length (jI f.1)) 48 l.length (jI f.2.1)) 46 1 + jI 1)).1 48 i = (sI (sI h1 47 l.length (jI f.1)) 48 l.length (jI f.2.1)).1 48 i := fun i => congrFun (sI_a _ (by decide) _ _) i
        by_cases g : i = l.length
        · subst g
          rw [List.getElem?_append_right (Nat.le_refl _), Nat.sub_self] at hp
          have : p = (f.1, f.2.1) := by
            have h9 : some (f.1, f.2.1) = some p := hp
            exact (Option.some.inj h9).symm
          subst this
          refine ⟨(e7 _).trans (sI_at _ _ _ _), (e8 _).trans (sI_at _ _ _ _), ha, hb⟩
        · have hlt := lt_of_some hp
          rw [List.length_append] at hlt
          have h1' : [(f.1, f.2.1)].length = 1 := rfl
          rw [List.getElem?_append_left (by omega)] at hp
          obtain ⟨b1, b2, b3⟩ := l3 i p hp
          refine ⟨(e7 _).trans ((sI_k _ _ g _).trans b1), (e8 _).trans ((sI_k _ _ g _).trans ?_), b3⟩
          rw [← b2]
          exact congrFun (sI_a _ (by decide) _ _) i
    have r49 : Run 49 [some (.ref 46), some (.long (jL f.1)), none, some (.long (jL f.2.1)), none, some (.long (jL f.2.2)), none] [] (sI h1 47 l.length (jI f.1)) (0, 0) := by
      have h46 : hI (sI h1 47 l.length (jI f.1)) 46 1 = jI l.length := by
        rw [← l1]
        exact congrFun (sI_a _ (by decide) _ _) 1
      refine hR 40 26 _ _ _ _ _ _ rfl ?_
      refine ⟨L1.K 46 rfl, _, L1.R 46 3 _ rfl, L1.K 46 rfl, ?_⟩
      rw [h46]
      refine ⟨L1.K 48 rfl, ?_, ?_⟩
      · rw [show hN (sI h1 47 l.length (jI f.1)) 48 = 40960 from L1.N 47 rfl]
        exact hin
      · rw [hnt, jL_I]
        exact r60
    refine hR 40 19 _ _ _ _ _ _ rfl ?_
    refine ⟨L1.K 46 rfl, _, L1.R 46 2 _ rfl, L1.K 46 rfl, ?_⟩
    rw [l1]
    refine ⟨L1.K 47 rfl, ?_, ?_⟩
    · rw [show hN h1 47 = 40960 from L1.N 46 rfl]
      exact hin
    · rw [hnt, jL_I]
      exact r49
  refine hR 40 0 _ _ _ _ _ _ rfl ?_
  refine ⟨L.K 46 rfl, _, L.R 46 7 _ rfl, L.K 51 rfl, jcallV c24 ?_⟩
  have c66 := ct_66 G hr1 g1 hd hw (by omega) (by omega) hc
  have c67 := ct_67 G g1 (by omega)
  have hgl : (Int.gcd (Int.gcd f.1 f.2.1 : Int) f.2.2 : Int) < 9223372036854775808 := by
    by_cases z : f.2.2 = 0
    · rw [z, Int.gcd_zero_right]
      have h5 : ((Int.gcd f.1 f.2.1 : Int)).natAbs = Int.gcd f.1 f.2.1 := rfl
      rw [h5]
      by_cases y : f.2.1 = 0
      · rw [y, Int.gcd_zero_right]
        omega
      · have := Int.gcd_le_natAbs_right f.1 (b := f.2.1) y
        omega
    · have := Int.gcd_le_natAbs_right (Int.gcd f.1 f.2.1 : Int) (b := f.2.2) z
      omega
  refine ⟨L1.K 46 rfl, _, L1.R 46 0 _ rfl, L1.K 46 rfl, _, L1.R 46 7 _ rfl, L1.K 7 rfl, jcall c66 ?_⟩
  by_cases g : rdB d w f.1 f.2.1 f.2.2 = true
  · rw [if_pos g]
    refine ⟨fun c => absurd c (by decide), fun c => ?_⟩
    refine ⟨L1.K 46 rfl, _, L1.R 46 7 _ rfl, L1.K 51 rfl, jcall c67 ?_⟩
    refine ⟨fun c2 => ?_, fun c2 => ?_⟩
    · simp (disch := omega) only [mj_lcm, jI_lt, jI_le, jI_eq, jL_lt, jL_le, jL_eq, jI_lt0, jI_0le, jI_0lt, jI_le0, jI_eq0, jL_eq0, jI_L, jI_add, jI_sub, jI_mul, jI_neg, jL_add, jL_sub, jL_mul, jL_neg, jL_I, jI_div, jI_mod, jL_div, jL_mod] at c2
      refine r38 ?_
      unfold tkL
      rw [if_pos ⟨g, by omega⟩]
    · simp (disch := omega) only [mj_lcm, jI_lt, jI_le, jI_eq, jL_lt, jL_le, jL_eq, jI_lt0, jI_0le, jI_0lt, jI_le0, jI_eq0, jL_eq0, jI_L, jI_add, jI_sub, jI_mul, jI_neg, jL_add, jL_sub, jL_mul, jL_neg, jL_I, jI_div, jI_mod, jL_div, jL_mod] at c2
      exact r37 (keep (fun z => c2 (by rw [z.2]; rfl)))
  · rw [if_neg g]
    refine ⟨fun c => ?_, fun c => absurd rfl c⟩
    exact r37 (keep (fun z => g z.1))
