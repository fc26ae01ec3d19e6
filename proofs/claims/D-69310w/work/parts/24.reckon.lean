/-! differences, comparisons, sums and products of long numbers -/
/-- FormHouse$Reckoner.takeSizes(LFormHouse$Whole;LFormHouse$Whole;)V; cuts at [13, 47, 74] -/
def cl_47_1 : List mj_E := (47, true, .lsub, 1, 0, 0, 0, 0, 0) ::
  (48, false, .lload_n 3, 1, 0, 0, 0, 0, 0) ::
  (49, false, .lsub, 1, 0, 0, 0, 0, 0) ::
  (50, false, .lstore 6, 2, 0, 0, 0, 0, 0) ::
  (52, false, .aload_n 0, 1, 0, 0, 0, 0, 0) ::
  (53, false, .getfield 9, 3, 2, 0, 2, 0, 0) ::
  (56, false, .iload 5, 2, 0, 0, 0, 0, 0) ::
  (58, false, .lload 6, 2, 0, 0, 0, 0, 0) ::
  (60, false, .l2i, 1, 0, 0, 0, 0, 0) ::
  (61, false, .iastore, 1, 0, 0, 0, 0, 0) ::
  (62, false, .lload 6, 2, 0, 0, 0, 0, 0) ::
  (64, false, .lconst 0, 1, 0, 0, 0, 0, jL 0) ::
  (65, false, .lcmp, 1, 0, 0, 0, 0, 0) ::
  (66, false, .ifCond .ge 7, 3, 40, 0, 0, 0, 0) ::
  (69, false, .lconst 1, 1, 0, 0, 0, 0, jL 1) ::
  (70, false, .goto 4, 3, 41, 0, 0, 0, 0) ::
  (73, false, .lconst 0, 1, 0, 0, 0, 0, jL 0) ::
  (74, true, .lstore_n 3, 1, 0, 0, 0, 0, 0) ::
  (75, false, .iinc 5 1, 3, 0, 0, 0, jI 1, 0) ::
  (78, false, .goto (-65), 3, 8, 0, 0, 0, 0) ::
  (81, false, .return_, 1, 0, 0, 0, 0, 0) ::
  []
def cl_47_0 : List mj_E := (0, false, .aload_n 0, 1, 0, 0, 0, 0, 0) ::
  (1, false, .aload_n 1, 1, 0, 0, 0, 0, 0) ::
  (2, false, .getfield 34, 3, 5, 1, 0, 0, 0) ::
  (5, false, .putfield 21, 3, 2, 1, 0, 0, 0) ::
  (8, false, .lconst 0, 1, 0, 0, 0, 0, jL 0) ::
  (9, false, .lstore_n 3, 1, 0, 0, 0, 0, 0) ::
  (10, false, .iconst 0, 1, 0, 0, 0, jI 0, 0) ::
  (11, false, .istore 5, 2, 0, 0, 0, 0, 0) ::
  (13, true, .iload 5, 2, 0, 0, 0, 0, 0) ::
  (15, false, .aload_n 0, 1, 0, 0, 0, 0, 0) ::
  (16, false, .getfield 21, 3, 2, 1, 0, 0, 0) ::
  (19, false, .if_icmp .ge 62, 3, 44, 0, 0, 0, 0) ::
  (22, false, .aload_n 1, 1, 0, 0, 0, 0, 0) ::
  (23, false, .iload 5, 2, 0, 0, 0, 0, 0) ::
  (25, false, .invokevirtual 41, 3, 32, 1, 5, 0, 0) ::
  (28, false, .iload 5, 2, 0, 0, 0, 0, 0) ::
  (30, false, .aload_n 2, 1, 0, 0, 0, 0, 0) ::
  (31, false, .getfield 34, 3, 5, 1, 0, 0, 0) ::
  (34, false, .if_icmp .ge 12, 3, 23, 0, 0, 0, 0) ::
  (37, false, .aload_n 2, 1, 0, 0, 0, 0, 0) ::
  (38, false, .iload 5, 2, 0, 0, 0, 0, 0) ::
  (40, false, .invokevirtual 41, 3, 32, 1, 5, 0, 0) ::
  (43, false, .goto 4, 3, 24, 0, 0, 0, 0) ::
  (46, false, .lconst 0, 1, 0, 0, 0, 0, jL 0) ::
  cl_47_1
def cd_47 : List mj_E := cl_47_0
def cx_47 : mj_X := (0, [], [])
theorem tb_47 : mj_tab (mj_mt 47) cx_47 cd_47 mj_mh [(0, 0, 0), (0, 0, 0), (1103, 0, 0), (1051, 0, 0), (0, 0, 0), (0, 0, 0), (0, 0, 0), (0, 0, 0), (0, 0, 0), (0, 0, 0), (1051, 0, 0), (0, 0, 0), (0, 0, 0), (0, 0, 0), (3109, 0, 0), (0, 0, 0), (0, 0, 0), (1103, 0, 0), (0, 0, 0), (0, 0, 0), (0, 0, 0), (3109, 0, 0), (0, 0, 0), (0, 0, 0), (0, 0, 0), (0, 0, 0), (0, 0, 0), (0, 0, 0), (0, 0, 0), (1050, 0, 0), (0, 0, 0), (0, 0, 0), (0, 0, 0), (0, 0, 0), (0, 0, 0), (0, 0, 0), (0, 0, 0), (0, 0, 0), (0, 0, 0), (0, 0, 0), (0, 0, 0), (0, 0, 0), (0, 0, 0), (0, 0, 0), (0, 0, 0)] = true := mj_tab_f (by decide +kernel)
theorem ct_47 (G : mj_G) {h : mj_H} {a b : Nat} {va vb : Int} (hk : isRk h) (ha : isW h a va) (hb : isW h b vb) (hle : vb.natAbs ≤ va.natAbs) : mj_Ct G (mj_mt 47) 0 0 [.ref 3, .ref a, .ref b] h (fun o h' => o = .returned none ∧ (∃ n : Nat, n ≤ 1025 ∧ hI h' 3 1 = jI n ∧ mag (h'.1 4) n = va.natAbs - vb.natAbs) ∧ FrI [3, 4] h h') := by
  obtain ⟨a0, na, a1, a2, a3, a4, a5⟩ := ha
  obtain ⟨b0, nb, b1, b2, b3, b4, b5⟩ := hb
  have ga := a0.2.2.2.2
  have gb' := b0.2.2.2.2
  have hnn : nb ≤ na := by
    rcases b5 with z | z
    · omega
    · rcases Nat.lt_or_ge na nb with y | y
      · have h1 := mag_lt (h.1 (a + 1)) na
        have h2 : 4294967296 ^ na ≤ 4294967296 ^ (nb - 1) := Nat.pow_le_pow_right (by decide) (by omega)
        omega
      · exact y
  refine mj_Ct_of mj_ok tb_47 rfl rfl (Nat.le_of_ble_eq_true rfl) (fun Run hR => ?_)
  have loop : ∀ (j k br : Nat) (kI : Int32) (bL : Int64) (h' : mj_H) (x6 x7 : Option Value), k + j = na → FrI [3, 4] h h' → hI h' 3 1 = jI na → br ≤ 1 → mag (h'.1 4) k + pm (h.1 (b + 1)) nb k = pm (h.1 (a + 1)) na k + br * 4294967296 ^ k → kI = jI k → bL = jL br → Run 13 [some (.ref 3), some (.ref a), some (.ref b), some (.long bL), none, some (.int kI), x6, x7] [] h' (0, 0) := by
    intro j
    induction j with
    | zero =>
      rintro k br kI bL h' x6 x7 hkj hf hl hbr hm rfl rfl
      have k' := hk.fr hf.1
      have hkN : k = na := by omega
      refine hR 60 8 _ _ _ _ _ _ rfl ?_
      refine ⟨k'.1, ?_⟩
      rw [hl]
      refine ⟨fun c => ⟨rfl, ⟨k, by omega, by rw [hl, hkN], ?_⟩, hf⟩, fun c => absurd (by simp (disch := omega) only [mj_lcm, jI_lt, jI_le, jI_eq, jL_lt, jL_le, jL_eq, jI_lt0, jI_0le, jI_0lt, jI_le0, jI_eq0, jL_eq0, jI_L, jI_add, jI_sub, jI_mul, jI_neg, jL_add, jL_sub, jL_mul, jL_neg, jL_I, jI_div, jI_mod, jL_div, jL_mod]; omega) c⟩
      rw [pm_e _ (by omega), pm_e _ (by omega), ← a4, ← b4] at hm
      have h1 := mag_lt (h'.1 4) k
      rcases (show br = 0 ∨ br = 1 by omega) with z | z
      · subst z
        omega
      · subst z
        omega
    | succ j ih =>
      rintro k br kI bL h' x6 x7 hkj hf hl hbr hm rfl rfl
      have k' := hk.fr hf.1
      have a0' := a0.fr hf.1
      have b0' := b0.fr hf.1
      have lb : hI h' b 1 = jI nb := by
        show h'.1 b 1 = _
        rw [hf.2 b (by simp; omega)]; exact b2
      have wa : hI h' (a + 1) k = h.1 (a + 1) k := by
        show h'.1 (a + 1) k = _
        rw [hf.2 (a + 1) (by simp; omega)]
      have wb : hI h' (b + 1) k = h.1 (b + 1) k := by
        show h'.1 (b + 1) k = _
        rw [hf.2 (b + 1) (by simp; omega)]
      have hx1 := wd_lt (h.1 (a + 1) k)
      have hxp : pm (h.1 (a + 1)) na (k + 1) = pm (h.1 (a + 1)) na k + wd (h.1 (a + 1) k) * 4294967296 ^ k := by
        rw [pm_s, if_pos (by omega)]
      have r74 : ∀ (y br' : Nat) (d : Int) (bL : Int64) (h2 : mj_H) (x6 x7 : Option Value), y = (if k < nb then wd (h.1 (b + 1) k) else 0) → d = (wd (h.1 (a + 1) k) : Int) - y - br → h2 = sI h' 4 k (jI d) → br' = (if d < 0 then 1 else 0) → bL = jL br' → Run 74 [some (.ref 3), some (.ref a), some (.ref b), some (.long (jL br)), none, some (.int (jI k)), x6, x7] [.long bL] h2 (0, 0) := by
        rintro y br' d bL h2 x6 x7 hy hd rfl hb' rfl
        have hy1 : y < 4294967296 := by
          rw [hy]
          split
          · exact wd_lt _
          · decide
        refine hR 60 41 _ _ _ _ _ _ rfl ?_
        refine ih (k + 1) br' _ _ _ _ _ (by omega) (hf.sI (by simp) _ _) ?_ ?_ ?_ (jI_add _ _) rfl
        · exact (congrFun (sI_a h' (by decide) _ _) 1).trans hl
        · rw [hb']
          split <;> decide
        · rw [mag_put (sI_row h' 4 k _).1 (sI_row h' 4 k _).2, wd_jI, hxp, pm_s, ← hy, Nat.pow_succ]
          have e1 : ((d % 4294967296).toNat : Int) = d + br' * 4294967296 := by
            rw [hb']
            split <;> omega
          have e2 : (d % 4294967296).toNat + y + br = wd (h.1 (a + 1) k) + br' * 4294967296 := by omega
          have e3 : ((d % 4294967296).toNat + y + br) * 4294967296 ^ k = (wd (h.1 (a + 1) k) + br' * 4294967296) * 4294967296 ^ k := by rw [e2]
          grind
      have r47 : ∀ (y : Nat) (yL : Int64) (x6 x7 : Option Value), y = (if k < nb then wd (h.1 (b + 1) k) else 0) → yL = jL y → Run 47 [some (.ref 3), some (.ref a), some (.ref b), some (.long (jL br)), none, some (.int (jI k)), x6, x7] [.long yL, .long (jL (wd (h.1 (a + 1) k)))] h' (0, 0) := by
        rintro y yL x6 x7 hy rfl
        have hy1 : y < 4294967296 := by
          rw [hy]
          split
          · exact wd_lt _
          · decide
        refine hR 60 24 _ _ _ _ _ _ rfl ?_
        refine ⟨k'.1, _, k'.2.1, k'.2.2.1, ?_, ?_⟩
        · rw [k'.2.2.2.1]
          exact jI_in (by omega) (by omega) (by omega)
        · rw [jI_nat (by omega) (by omega), show Int.toNat (k : Nat) = k from rfl, jL_sub, jL_sub, jL_I]
          refine ⟨fun c => ?_, fun c => ?_⟩
          · simp (disch := omega) only [mj_lcm, jI_lt, jI_le, jI_eq, jL_lt, jL_le, jL_eq, jI_lt0, jI_0le, jI_0lt, jI_le0, jI_eq0, jL_eq0, jI_L, jI_add, jI_sub, jI_mul, jI_neg, jL_add, jL_sub, jL_mul, jL_neg, jL_I, jI_div, jI_mod, jL_div, jL_mod] at c
            exact r74 y 0 _ _ _ _ _ hy rfl rfl (by rw [if_neg (by omega)]) rfl
          · simp (disch := omega) only [mj_lcm, jI_lt, jI_le, jI_eq, jL_lt, jL_le, jL_eq, jI_lt0, jI_0le, jI_0lt, jI_le0, jI_eq0, jL_eq0, jI_L, jI_add, jI_sub, jI_mul, jI_neg, jL_add, jL_sub, jL_mul, jL_neg, jL_I, jI_div, jI_mod, jL_div, jL_mod] at c
            exact r74 y 1 _ _ _ _ _ hy rfl rfl (by rw [if_pos (by omega)]) rfl
      refine hR 60 8 _ _ _ _ _ _ rfl ?_
      refine ⟨k'.1, ?_⟩
      rw [hl]
      refine ⟨fun c => ?_, fun c => ⟨a0'.1, jcall (ct_32 G a0' (by omega) (by omega)) ⟨b0'.1, ?_⟩⟩⟩
      · simp (disch := omega) only [mj_lcm, jI_lt, jI_le, jI_eq, jL_lt, jL_le, jL_eq, jI_lt0, jI_0le, jI_0lt, jI_le0, jI_eq0, jL_eq0, jI_L, jI_add, jI_sub, jI_mul, jI_neg, jL_add, jL_sub, jL_mul, jL_neg, jL_I, jI_div, jI_mod, jL_div, jL_mod] at c
        omega
      · rw [lb, show Int.toNat (k : Nat) = k from rfl, wa]
        refine ⟨fun c2 => ?_, fun c2 => ?_⟩
        · simp (disch := omega) only [mj_lcm, jI_lt, jI_le, jI_eq, jL_lt, jL_le, jL_eq, jI_lt0, jI_0le, jI_0lt, jI_le0, jI_eq0, jL_eq0, jI_L, jI_add, jI_sub, jI_mul, jI_neg, jL_add, jL_sub, jL_mul, jL_neg, jL_I, jI_div, jI_mod, jL_div, jL_mod] at c2
          exact r47 0 _ _ _ (by rw [if_neg (by omega)]) rfl
        · simp (disch := omega) only [mj_lcm, jI_lt, jI_le, jI_eq, jL_lt, jL_le, jL_eq, jI_lt0, jI_0le, jI_0lt, jI_le0, jI_eq0, jL_eq0, jI_L, jI_add, jI_sub, jI_mul, jI_neg, jL_add, jL_sub, jL_mul, jL_neg, jL_I, jI_div, jI_mod, jL_div, jL_mod] at c2
          refine ⟨b0'.1, jcall (ct_32 G b0' (by omega) (by omega)) ?_⟩
          rw [show Int.toNat (k : Nat) = k from rfl, wb]
          exact r47 _ _ _ _ (by rw [if_pos (by omega)]) rfl
  refine hR 60 0 _ _ _ _ _ _ rfl ?_
  refine ⟨a0.1, hk.1, ?_⟩
  rw [a2]
  exact loop na 0 0 _ _ _ _ _ (by omega) ((FrI.refl _ h).sI (by simp) _ _) (sI_at _ _ _ _) (by decide) (by rw [pm_0, pm_0]; rfl) rfl rfl
/-- FormHouse$Whole.compareSize(LFormHouse$Whole;)I; cuts at [35, 60] -/
def cl_44_2 : List mj_E := (90, false, .iconst 1, 1, 0, 0, 0, jI 1, 0) ::
  (91, false, .ireturn, 1, 0, 0, 0, 0, 0) ::
  []
def cl_44_1 : List mj_E := (44, false, .iaload, 1, 0, 0, 0, 0, 0) ::
  (45, false, .aload_n 1, 1, 0, 0, 0, 0, 0) ::
  (46, false, .getfield 9, 3, 5, 0, 2, 0, 0) ::
  (49, false, .iload_n 2, 1, 0, 0, 0, 0, 0) ::
  (50, false, .iaload, 1, 0, 0, 0, 0, 0) ::
  (51, false, .if_icmp .ne 9, 3, 32, 0, 0, 0, 0) ::
  (54, false, .iinc 2 (-1), 3, 0, 0, 0, jI (-1), 0) ::
  (57, false, .goto (-22), 3, 19, 0, 0, 0, 0) ::
  (60, true, .iload_n 2, 1, 0, 0, 0, 0, 0) ::
  (61, false, .ifCond .ge 7, 3, 36, 0, 0, 0, 0) ::
  (64, false, .iconst 0, 1, 0, 0, 0, jI 0, 0) ::
  (65, false, .goto 26, 3, 49, 0, 0, 0, 0) ::
  (68, false, .aload_n 0, 1, 0, 0, 0, 0, 0) ::
  (69, false, .getfield 9, 3, 5, 0, 2, 0, 0) ::
  (72, false, .iload_n 2, 1, 0, 0, 0, 0, 0) ::
  (73, false, .iaload, 1, 0, 0, 0, 0, 0) ::
  (74, false, .aload_n 1, 1, 0, 0, 0, 0, 0) ::
  (75, false, .getfield 9, 3, 5, 0, 2, 0, 0) ::
  (78, false, .iload_n 2, 1, 0, 0, 0, 0, 0) ::
  (79, false, .iaload, 1, 0, 0, 0, 0, 0) ::
  (80, false, .invokestatic 42, 3, 45, 2, 0, 0, 0) ::
  (83, false, .ifCond .ge 7, 3, 48, 0, 0, 0, 0) ::
  (86, false, .iconst (-1), 1, 0, 0, 0, jI (-1), 0) ::
  (87, false, .goto 4, 3, 49, 0, 0, 0, 0) ::
  cl_44_2
def cl_44_0 : List mj_E := (0, false, .aload_n 0, 1, 0, 0, 0, 0, 0) ::
  (1, false, .getfield 17, 3, 5, 1, 0, 0, 0) ::
  (4, false, .aload_n 1, 1, 0, 0, 0, 0, 0) ::
  (5, false, .getfield 17, 3, 5, 1, 0, 0, 0) ::
  (8, false, .if_icmp .eq 20, 3, 14, 0, 0, 0, 0) ::
  (11, false, .aload_n 0, 1, 0, 0, 0, 0, 0) ::
  (12, false, .getfield 17, 3, 5, 1, 0, 0, 0) ::
  (15, false, .aload_n 1, 1, 0, 0, 0, 0, 0) ::
  (16, false, .getfield 17, 3, 5, 1, 0, 0, 0) ::
  (19, false, .if_icmp .ge 7, 3, 12, 0, 0, 0, 0) ::
  (22, false, .iconst (-1), 1, 0, 0, 0, jI (-1), 0) ::
  (23, false, .goto 4, 3, 13, 0, 0, 0, 0) ::
  (26, false, .iconst 1, 1, 0, 0, 0, jI 1, 0) ::
  (27, false, .ireturn, 1, 0, 0, 0, 0, 0) ::
  (28, false, .aload_n 0, 1, 0, 0, 0, 0, 0) ::
  (29, false, .getfield 17, 3, 5, 1, 0, 0, 0) ::
  (32, false, .iconst 1, 1, 0, 0, 0, jI 1, 0) ::
  (33, false, .isub, 1, 0, 0, 0, 0, 0) ::
  (34, false, .istore_n 2, 1, 0, 0, 0, 0, 0) ::
  (35, true, .iload_n 2, 1, 0, 0, 0, 0, 0) ::
  (36, false, .ifCond .lt 24, 3, 32, 0, 0, 0, 0) ::
  (39, false, .aload_n 0, 1, 0, 0, 0, 0, 0) ::
  (40, false, .getfield 9, 3, 5, 0, 2, 0, 0) ::
  (43, false, .iload_n 2, 1, 0, 0, 0, 0, 0) ::
  cl_44_1
def cd_44 : List mj_E := cl_44_0
def cx_44 : mj_X := (1, [], [])
theorem tb_44 : mj_tab (mj_mt 44) cx_44 cd_44 mj_mh [(0, 0, 0), (1104, 0, 0), (0, 0, 0), (1104, 0, 0), (0, 0, 0), (0, 0, 0), (1104, 0, 0), (0, 0, 0), (1104, 0, 0), (0, 0, 0), (0, 0, 0), (0, 0, 0), (0, 0, 0), (0, 0, 0), (0, 0, 0), (1104, 0, 0), (0, 0, 0), (0, 0, 0), (0, 0, 0), (0, 0, 0), (0, 0, 0), (0, 0, 0), (1097, 0, 0), (0, 0, 0), (0, 0, 0), (0, 0, 0), (1097, 0, 0), (0, 0, 0), (0, 0, 0), (0, 0, 0), (0, 0, 0), (0, 0, 0), (0, 0, 0), (0, 0, 0), (0, 0, 0), (0, 0, 0), (0, 0, 0), (1097, 0, 0), (0, 0, 0), (0, 0, 0), (0, 0, 0), (1097, 0, 0), (0, 0, 0), (0, 0, 0), (3208, 0, 0), (0, 0, 0), (0, 0, 0), (0, 0, 0), (0, 0, 0), (0, 0, 0)] = true := mj_tab_f (by decide +kernel)
theorem ct_44 (G : mj_G) {h : mj_H} {a b : Nat} {va vb : Int} (ha : isW h a va) (hb : isW h b vb) : mj_Ct G (mj_mt 44) 0 0 [.ref a, .ref b] h (jR (.int (jI (if va.natAbs < vb.natAbs then -1 else if va.natAbs = vb.natAbs then 0 else 1))) h) := by
  obtain ⟨a0, na, a1, a2, a3, a4, a5⟩ := ha
  obtain ⟨b0, nb, b1, b2, b3, b4, b5⟩ := hb
  have less : ∀ {ga gb : Nat → Int32} {x y : Nat}, x < y → mag ga x < 4294967296 ^ (y - 1) := by
    intro ga gb x y hxy
    exact Nat.lt_of_lt_of_le (mag_lt ga x) (Nat.pow_le_pow_right (by decide) (by omega))
  refine mj_Ct_of mj_ok tb_44 rfl rfl (Nat.le_of_ble_eq_true rfl) (fun Run hR => ?_)
  have r60 : ∀ (k : Int) (kI : Int32), na = nb → -1 ≤ k → k < na → mag (h.1 (a + 1)) na + mag (h.1 (b + 1)) (k + 1).toNat = mag (h.1 (b + 1)) na + mag (h.1 (a + 1)) (k + 1).toNat → (0 ≤ k → h.1 (a + 1) k.toNat ≠ h.1 (b + 1) k.toNat) → kI = jI k → Run 60 [some (.ref a), some (.ref b), some (.int kI)] [] h (0, 0) := by
    rintro k kI hnn hk1 hk2 hm hne rfl
    refine hR 60 32 _ _ _ _ _ _ rfl ?_
    refine ⟨fun c => ?_, fun c => ?_⟩
    · simp (disch := omega) only [mj_lcm, jI_lt, jI_le, jI_eq, jL_lt, jL_le, jL_eq, jI_lt0, jI_0le, jI_0lt, jI_le0, jI_eq0, jL_eq0, jI_L, jI_add, jI_sub, jI_mul, jI_neg, jL_add, jL_sub, jL_mul, jL_neg, jL_I, jI_div, jI_mod, jL_div, jL_mod] at c
      obtain ⟨m, rfl⟩ := Int.eq_ofNat_of_zero_le c
      have hin : vp_in (jI (m : Nat)) 1024 := jI_in (by omega) (by omega) (by omega)
      have e1 : ((m : Int) + 1).toNat = m + 1 := by omega
      have hne' : h.1 (a + 1) m ≠ h.1 (b + 1) m := hne (by omega)
      rw [e1] at hm
      refine ⟨a0.1, _, a0.2.1, Or.inl a0.2.2.1, by rw [a0.2.2.2.1]; exact hin, b0.1, _, b0.2.1, Or.inl b0.2.2.1, by rw [b0.2.2.2.1]; exact hin, ?_⟩
      rw [jI_nat (by omega) (by omega), show Int.toNat (m : Nat) = m from rfl]
      have c45 := ct_45 G (x := wd (h.1 (a + 1) m)) (y := wd (h.1 (b + 1) m)) (by omega) (by have := wd_lt (h.1 (a + 1) m); omega) (by omega) (by have := wd_lt (h.1 (b + 1) m); omega) h
      rw [jI_wd, jI_wd] at c45
      have hwne : wd (h.1 (a + 1) m) ≠ wd (h.1 (b + 1) m) := fun e => hne' (by rw [← jI_wd (h.1 (a + 1) m), e, jI_wd])
      have la := mag_lt (h.1 (a + 1)) m
      have lb := mag_lt (h.1 (b + 1)) m
      have sa : mag (h.1 (a + 1)) (m + 1) = mag (h.1 (a + 1)) m + wd (h.1 (a + 1) m) * 4294967296 ^ m := rfl
      have sb : mag (h.1 (b + 1)) (m + 1) = mag (h.1 (b + 1)) m + wd (h.1 (b + 1) m) * 4294967296 ^ m := rfl
      rw [← a4, hnn, ← b4] at hm
      generalize wd (h.1 (a + 1) m) = x at *
      generalize wd (h.1 (b + 1) m) = y at *
      by_cases g : x < y
      · have h1 : (x + 1) * 4294967296 ^ m ≤ y * 4294967296 ^ m := Nat.mul_le_mul_right _ g
        rw [Nat.add_mul, Nat.one_mul] at h1
        rw [if_pos (by omega)] at c45
        refine jcall c45 ?_
        refine ⟨fun c2 => absurd c2 (by decide), fun c2 => ?_⟩
        rw [if_pos (by omega)]
        exact jRe rfl
      · have h1 : (y + 1) * 4294967296 ^ m ≤ x * 4294967296 ^ m := Nat.mul_le_mul_right _ (by omega)
        rw [Nat.add_mul, Nat.one_mul] at h1
        rw [if_neg (by omega), if_neg (by omega)] at c45
        refine jcall c45 ?_
        refine ⟨fun c2 => ?_, fun c2 => absurd (by decide) c2⟩
        rw [if_neg (by omega), if_neg (by omega)]
        exact jRe rfl
    · simp (disch := omega) only [mj_lcm, jI_lt, jI_le, jI_eq, jL_lt, jL_le, jL_eq, jI_lt0, jI_0le, jI_0lt, jI_le0, jI_eq0, jL_eq0, jI_L, jI_add, jI_sub, jI_mul, jI_neg, jL_add, jL_sub, jL_mul, jL_neg, jL_I, jI_div, jI_mod, jL_div, jL_mod] at c
      have e1 : (k + 1).toNat = 0 := by omega
      rw [e1, ← a4, hnn, ← b4] at hm
      have hm' : va.natAbs = vb.natAbs := hm
      rw [if_neg (by omega), if_pos hm']
      exact jRe rfl
  have loop : ∀ (j : Nat) (k : Int) (kI : Int32), na = nb → k + 1 = j → k < na → mag (h.1 (a + 1)) na + mag (h.1 (b + 1)) (k + 1).toNat = mag (h.1 (b + 1)) na + mag (h.1 (a + 1)) (k + 1).toNat → kI = jI k → Run 35 [some (.ref a), some (.ref b), some (.int kI)] [] h (0, 0) := by
    intro j
    induction j with
    | zero =>
      rintro k kI hnn hk hk2 hm rfl
      refine hR 60 19 _ _ _ _ _ _ rfl ?_
      refine ⟨fun c => ?_, fun c => ?_⟩
      · exact r60 k _ hnn (by omega) hk2 hm (fun z => by omega) rfl
      · simp (disch := omega) only [mj_lcm, jI_lt, jI_le, jI_eq, jL_lt, jL_le, jL_eq, jI_lt0, jI_0le, jI_0lt, jI_le0, jI_eq0, jL_eq0, jI_L, jI_add, jI_sub, jI_mul, jI_neg, jL_add, jL_sub, jL_mul, jL_neg, jL_I, jI_div, jI_mod, jL_div, jL_mod] at c
        omega
    | succ j ih =>
      rintro k kI hnn hk hk2 hm rfl
      have hkj : k = (j : Nat) := by omega
      subst hkj
      refine hR 60 19 _ _ _ _ _ _ rfl ?_
      have hin : vp_in (jI (j : Nat)) 1024 := jI_in (by omega) (by omega) (by omega)
      refine ⟨fun c => ?_, fun c => ?_⟩
      · simp (disch := omega) only [mj_lcm, jI_lt, jI_le, jI_eq, jL_lt, jL_le, jL_eq, jI_lt0, jI_0le, jI_0lt, jI_le0, jI_eq0, jL_eq0, jI_L, jI_add, jI_sub, jI_mul, jI_neg, jL_add, jL_sub, jL_mul, jL_neg, jL_I, jI_div, jI_mod, jL_div, jL_mod] at c
        omega
      · refine ⟨a0.1, _, a0.2.1, Or.inl a0.2.2.1, by rw [a0.2.2.2.1]; exact hin, b0.1, _, b0.2.1, Or.inl b0.2.2.1, by rw [b0.2.2.2.1]; exact hin, ?_⟩
        rw [jI_nat (by omega) (by omega), show Int.toNat (j : Nat) = j from rfl]
        refine ⟨fun c2 => ?_, fun c2 => ?_⟩
        · have c3 : h.1 (a + 1) j = h.1 (b + 1) j := c2
          refine ih ((j : Int) + -1) _ hnn (by omega) (by omega) ?_ (jI_add _ _)
          rw [show ((j : Int) + -1 + 1).toNat = j by omega]
          rw [show ((j : Int) + 1).toNat = j + 1 by omega] at hm
          have sa : mag (h.1 (a + 1)) (j + 1) = mag (h.1 (a + 1)) j + wd (h.1 (a + 1) j) * 4294967296 ^ j := rfl
          have sb : mag (h.1 (b + 1)) (j + 1) = mag (h.1 (b + 1)) j + wd (h.1 (b + 1) j) * 4294967296 ^ j := rfl
          rw [c3] at sa
          omega
        · exact r60 j _ hnn (by omega) hk2 hm (fun _ => c2) rfl
  refine hR 60 0 _ _ _ _ _ _ rfl ?_
  refine ⟨a0.1, b0.1, ?_⟩
  rw [a2, b2]
  refine ⟨fun c => ⟨a0.1, ?_⟩, fun c => ⟨a0.1, b0.1, ?_⟩⟩
  · simp (disch := omega) only [mj_lcm, jI_lt, jI_le, jI_eq, jL_lt, jL_le, jL_eq, jI_lt0, jI_0le, jI_0lt, jI_le0, jI_eq0, jL_eq0, jI_L, jI_add, jI_sub, jI_mul, jI_neg, jL_add, jL_sub, jL_mul, jL_neg, jL_I, jI_div, jI_mod, jL_div, jL_mod] at c
    rw [a2]
    refine loop na ((na : Int) - 1) _ (by omega) (by omega) (by omega) ?_ (jI_sub _ _)
    rw [show ((na : Int) - 1 + 1).toNat = na by omega]
    omega
  · simp (disch := omega) only [mj_lcm, jI_lt, jI_le, jI_eq, jL_lt, jL_le, jL_eq, jI_lt0, jI_0le, jI_0lt, jI_le0, jI_eq0, jL_eq0, jI_L, jI_add, jI_sub, jI_mul, jI_neg, jL_add, jL_sub, jL_mul, jL_neg, jL_I, jI_div, jI_mod, jL_div, jL_mod] at c
    rw [a2, b2]
    refine ⟨fun c2 => ?_, fun c2 => ?_⟩
    · simp (disch := omega) only [mj_lcm, jI_lt, jI_le, jI_eq, jL_lt, jL_le, jL_eq, jI_lt0, jI_0le, jI_0lt, jI_le0, jI_eq0, jL_eq0, jI_L, jI_add, jI_sub, jI_mul, jI_neg, jL_add, jL_sub, jL_mul, jL_neg, jL_I, jI_div, jI_mod, jL_div, jL_mod] at c2
      have h1 : vb.natAbs < va.natAbs := by
        rcases a5 with z | z
        · omega
        · have := less (ga := h.1 (b + 1)) (gb := h.1 (b + 1)) (x := nb) (y := na) (by omega)
          omega
      rw [if_neg (by omega), if_neg (by omega)]
      exact jRe rfl
    · simp (disch := omega) only [mj_lcm, jI_lt, jI_le, jI_eq, jL_lt, jL_le, jL_eq, jI_lt0, jI_0le, jI_0lt, jI_le0, jI_eq0, jL_eq0, jI_L, jI_add, jI_sub, jI_mul, jI_neg, jL_add, jL_sub, jL_mul, jL_neg, jL_I, jI_div, jI_mod, jL_div, jL_mod] at c2
      have h1 : va.natAbs < vb.natAbs := by
        rcases b5 with z | z
        · omega
        · have := less (ga := h.1 (a + 1)) (gb := h.1 (b + 1)) (x := na) (y := nb) (by omega)
          omega
      rw [if_pos h1]
      exact jRe rfl
