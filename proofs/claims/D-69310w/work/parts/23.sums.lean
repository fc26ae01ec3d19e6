/-! sums of long numbers -/
theorem mag_put {g g' : Nat → Int32} {k : Nat} {v : Int32} (h1 : ∀ i, i < k → g' i = g i) (h2 : g' k = v) : mag g' (k + 1) = mag g k + wd v * 4294967296 ^ k := by
  show mag g' k + wd (g' k) * 4294967296 ^ k = _
  rw [mag_congr h1, h2]
theorem sI_row (h : mj_H) (a k : Nat) (v : Int32) : (∀ i, i < k → (sI h a k v).1 a i = h.1 a i) ∧ (sI h a k v).1 a k = v :=
  ⟨fun i hi => sI_k h a (by omega) v, sI_at h a k v⟩
/-- the words of a number up to a place -/
def pm (g : Nat → Int32) (n k : Nat) : Nat := mag g (min k n)
theorem pm_0 (g : Nat → Int32) (n : Nat) : pm g n 0 = 0 := by simp [pm, mag]
theorem pm_s (g : Nat → Int32) (n k : Nat) : pm g n (k + 1) = pm g n k + (if k < n then wd (g k) else 0) * 4294967296 ^ k := by
  unfold pm
  by_cases h : k < n
  · rw [if_pos h, Nat.min_eq_left (by omega), Nat.min_eq_left (by omega)]
    rfl
  · rw [if_neg h, Nat.min_eq_right (by omega), Nat.min_eq_right (by omega)]
    omega
theorem pm_e (g : Nat → Int32) {n k : Nat} (h : n ≤ k) : pm g n k = mag g n := by
  unfold pm
  rw [Nat.min_eq_right h]
/-- FormHouse$Reckoner.sumSizes(LFormHouse$Whole;LFormHouse$Whole;)V; cuts at [20, 49, 68] -/
def cl_42_2 : List mj_E := (88, false, .goto (-68), 3, 11, 0, 0, 0, 0) ::
  (91, false, .aload_n 0, 1, 0, 0, 0, 0, 0) ::
  (92, false, .getfield 9, 3, 2, 0, 2, 0, 0) ::
  (95, false, .aload_n 0, 1, 0, 0, 0, 0, 0) ::
  (96, false, .getfield 21, 3, 2, 1, 0, 0, 0) ::
  (99, false, .lload_n 3, 1, 0, 0, 0, 0, 0) ::
  (100, false, .l2i, 1, 0, 0, 0, 0, 0) ::
  (101, false, .iastore, 1, 0, 0, 0, 0, 0) ::
  (102, false, .aload_n 0, 1, 0, 0, 0, 0, 0) ::
  (103, false, .dup, 1, 0, 0, 0, 0, 0) ::
  (104, false, .getfield 21, 3, 2, 1, 0, 0, 0) ::
  (107, false, .iconst 1, 1, 0, 0, 0, jI 1, 0) ::
  (108, false, .iadd, 1, 0, 0, 0, 0, 0) ::
  (109, false, .putfield 21, 3, 2, 1, 0, 0, 0) ::
  (112, false, .return_, 1, 0, 0, 0, 0, 0) ::
  []
def cl_42_1 : List mj_E := (48, false, .lconst 0, 1, 0, 0, 0, 0, jL 0) ::
  (49, true, .iload 5, 2, 0, 0, 0, 0, 0) ::
  (51, false, .aload_n 2, 1, 0, 0, 0, 0, 0) ::
  (52, false, .getfield 34, 3, 5, 1, 0, 0, 0) ::
  (55, false, .if_icmp .ge 12, 3, 33, 0, 0, 0, 0) ::
  (58, false, .aload_n 2, 1, 0, 0, 0, 0, 0) ::
  (59, false, .iload 5, 2, 0, 0, 0, 0, 0) ::
  (61, false, .invokevirtual 41, 3, 32, 1, 5, 0, 0) ::
  (64, false, .goto 4, 3, 34, 0, 0, 0, 0) ::
  (67, false, .lconst 0, 1, 0, 0, 0, 0, jL 0) ::
  (68, true, .ladd, 1, 0, 0, 0, 0, 0) ::
  (69, false, .ladd, 1, 0, 0, 0, 0, 0) ::
  (70, false, .lstore_n 3, 1, 0, 0, 0, 0, 0) ::
  (71, false, .aload_n 0, 1, 0, 0, 0, 0, 0) ::
  (72, false, .getfield 9, 3, 2, 0, 2, 0, 0) ::
  (75, false, .iload 5, 2, 0, 0, 0, 0, 0) ::
  (77, false, .lload_n 3, 1, 0, 0, 0, 0, 0) ::
  (78, false, .l2i, 1, 0, 0, 0, 0, 0) ::
  (79, false, .iastore, 1, 0, 0, 0, 0, 0) ::
  (80, false, .lload_n 3, 1, 0, 0, 0, 0, 0) ::
  (81, false, .bipush 32, 2, 0, 0, 0, jI 32, 0) ::
  (83, false, .lushr, 1, 0, 0, 0, 0, 0) ::
  (84, false, .lstore_n 3, 1, 0, 0, 0, 0, 0) ::
  (85, false, .iinc 5 1, 3, 0, 0, 0, jI 1, 0) ::
  cl_42_2
def cl_42_0 : List mj_E := (0, false, .aload_n 0, 1, 0, 0, 0, 0, 0) ::
  (1, false, .aload_n 1, 1, 0, 0, 0, 0, 0) ::
  (2, false, .getfield 34, 3, 5, 1, 0, 0, 0) ::
  (5, false, .aload_n 2, 1, 0, 0, 0, 0, 0) ::
  (6, false, .getfield 34, 3, 5, 1, 0, 0, 0) ::
  (9, false, .invokestatic 35, 3, 43, 2, 0, 0, 0) ::
  (12, false, .putfield 21, 3, 2, 1, 0, 0, 0) ::
  (15, false, .lconst 0, 1, 0, 0, 0, 0, jL 0) ::
  (16, false, .lstore_n 3, 1, 0, 0, 0, 0, 0) ::
  (17, false, .iconst 0, 1, 0, 0, 0, jI 0, 0) ::
  (18, false, .istore 5, 2, 0, 0, 0, 0, 0) ::
  (20, true, .iload 5, 2, 0, 0, 0, 0, 0) ::
  (22, false, .aload_n 0, 1, 0, 0, 0, 0, 0) ::
  (23, false, .getfield 21, 3, 2, 1, 0, 0, 0) ::
  (26, false, .if_icmp .ge 65, 3, 49, 0, 0, 0, 0) ::
  (29, false, .lload_n 3, 1, 0, 0, 0, 0, 0) ::
  (30, false, .iload 5, 2, 0, 0, 0, 0, 0) ::
  (32, false, .aload_n 1, 1, 0, 0, 0, 0, 0) ::
  (33, false, .getfield 34, 3, 5, 1, 0, 0, 0) ::
  (36, false, .if_icmp .ge 12, 3, 24, 0, 0, 0, 0) ::
  (39, false, .aload_n 1, 1, 0, 0, 0, 0, 0) ::
  (40, false, .iload 5, 2, 0, 0, 0, 0, 0) ::
  (42, false, .invokevirtual 41, 3, 32, 1, 5, 0, 0) ::
  (45, false, .goto 4, 3, 25, 0, 0, 0, 0) ::
  cl_42_1
def cd_42 : List mj_E := cl_42_0
def cx_42 : mj_X := (0, [], [])
theorem tb_42 : mj_tab (mj_mt 42) cx_42 cd_42 mj_mh [(0, 0, 0), (0, 0, 0), (1103, 0, 0), (0, 0, 0), (1103, 0, 0), (3201, 0, 0), (1051, 0, 0), (0, 0, 0), (0, 0, 0), (0, 0, 0), (0, 0, 0), (0, 0, 0), (0, 0, 0), (1051, 0, 0), (0, 0, 0), (0, 0, 0), (0, 0, 0), (0, 0, 0), (1103, 0, 0), (0, 0, 0), (0, 0, 0), (0, 0, 0), (3109, 0, 0), (0, 0, 0), (0, 0, 0), (0, 0, 0), (0, 0, 0), (1103, 0, 0), (0, 0, 0), (0, 0, 0), (0, 0, 0), (3109, 0, 0), (0, 0, 0), (0, 0, 0), (0, 0, 0), (0, 0, 0), (0, 0, 0), (0, 0, 0), (1050, 0, 0), (0, 0, 0), (0, 0, 0), (0, 0, 0), (0, 0, 0), (0, 0, 0), (0, 0, 0), (0, 0, 0), (0, 0, 0), (0, 0, 0), (0, 0, 0), (0, 0, 0), (1050, 0, 0), (0, 0, 0), (1051, 0, 0), (0, 0, 0), (0, 0, 0), (0, 0, 0), (0, 0, 0), (0, 0, 0), (1051, 0, 0), (0, 0, 0), (0, 0, 0), (1051, 0, 0), (0, 0, 0)] = true := mj_tab_f (by decide +kernel)
theorem ct_42 (G : mj_G) {h : mj_H} {a b : Nat} {va vb : Int} (hk : isRk h) (ha : isW h a va) (hb : isW h b vb) : mj_Ct G (mj_mt 42) 0 0 [.ref 3, .ref a, .ref b] h (fun o h' => o = .returned none ∧ (∃ n : Nat, n ≤ 1025 ∧ hI h' 3 1 = jI n ∧ mag (h'.1 4) n = va.natAbs + vb.natAbs) ∧ FrI [3, 4] h h') := by
  obtain ⟨a0, na, a1, a2, a3, a4, a5⟩ := ha
  obtain ⟨b0, nb, b1, b2, b3, b4, b5⟩ := hb
  have ga := a0.2.2.2.2
  have gb' := b0.2.2.2.2
  refine mj_Ct_of mj_ok tb_42 rfl rfl (Nat.le_of_ble_eq_true rfl) (fun Run hR => ?_)
  have loop : ∀ (N : Nat), N ≤ 1024 → na ≤ N → nb ≤ N → ∀ (j k cr : Nat) (kI : Int32) (cL : Int64) (h' : mj_H), k + j = N → FrI [3, 4] h h' → hI h' 3 1 = jI N → cr ≤ 1 → mag (h'.1 4) k + cr * 4294967296 ^ k = pm (h.1 (a + 1)) na k + pm (h.1 (b + 1)) nb k → kI = jI k → cL = jL cr → Run 20 [some (.ref 3), some (.ref a), some (.ref b), some (.long cL), none, some (.int kI)] [] h' (0, 0) := by
    intro N hN hna hnb j
    induction j with
    | zero =>
      rintro k cr kI cL h' hkj hf hl hcr hm rfl rfl
      have k' := hk.fr hf.1
      have hkN : k = N := by omega
      subst hkN
      refine hR 60 11 _ _ _ _ _ _ rfl ?_
      refine ⟨k'.1, ?_⟩
      rw [hl]
      refine ⟨fun c => ?_, fun c => absurd (by simp (disch := omega) only [mj_lcm, jI_lt, jI_le, jI_eq, jL_lt, jL_le, jL_eq, jI_lt0, jI_0le, jI_0lt, jI_le0, jI_eq0, jL_eq0, jI_L, jI_add, jI_sub, jI_mul, jI_neg, jL_add, jL_sub, jL_mul, jL_neg, jL_I, jI_div, jI_mod, jL_div, jL_mod]; omega) c⟩
      refine ⟨k'.1, _, k'.2.1, k'.1, ?_⟩
      rw [hl]
      refine ⟨k'.2.2.1, ?_, ?_⟩
      · rw [k'.2.2.2.1]
        exact jI_in (by omega) (by omega) (by omega)
      · rw [jL_I, jI_nat (by omega) (by omega), show Int.toNat (k : Nat) = k from rfl]
        refine ⟨k'.1, k'.1, ?_⟩
        have e1 : hI (sI h' 4 k (jI cr)) 3 1 = jI k := (congrFun (sI_a h' (by decide) _ _) 1).trans hl
        rw [e1, jI_add]
        refine ⟨rfl, ⟨k + 1, by omega, sI_at _ _ _ _, ?_⟩, (hf.sI (by simp) _ _).sI (by simp) _ _⟩
        rw [show (sI (sI h' 4 k (jI cr)) 3 1 (jI (k + 1))).1 4 = (sI h' 4 k (jI cr)).1 4 from sI_a _ (by decide) _ _]
        rw [mag_put (sI_row h' 4 k (jI cr)).1 (sI_row h' 4 k (jI cr)).2, wd_jI, show ((cr : Int) % 4294967296).toNat = cr by omega, hm, pm_e _ hna, pm_e _ hnb, a4, b4]
    | succ j ih =>
      rintro k cr kI cL h' hkj hf hl hcr hm rfl rfl
      have k' := hk.fr hf.1
      have a0' := a0.fr hf.1
      have b0' := b0.fr hf.1
      have la : hI h' a 1 = jI na := by
        show h'.1 a 1 = _
        rw [hf.2 a (by simp; omega)]; exact a2
      have lb : hI h' b 1 = jI nb := by
        show h'.1 b 1 = _
        rw [hf.2 b (by simp; omega)]; exact b2
      have wa : hI h' (a + 1) k = h.1 (a + 1) k := by
        show h'.1 (a + 1) k = _
        rw [hf.2 (a + 1) (by simp; omega)]
      have wb : hI h' (b + 1) k = h.1 (b + 1) k := by
        show h'.1 (b + 1) k = _
        rw [hf.2 (b + 1) (by simp; omega)]
      have r68 : ∀ (x y : Nat) (xL yL : Int64), x = (if k < na then wd (h.1 (a + 1) k) else 0) → y = (if k < nb then wd (h.1 (b + 1) k) else 0) → xL = jL x → yL = jL y → Run 68 [some (.ref 3), some (.ref a), some (.ref b), some (.long (jL cr)), none, some (.int (jI k))] [.long yL, .long xL, .long (jL cr)] h' (0, 0) := by
        rintro x y xL yL hx hy rfl rfl
        have hx1 : x < 4294967296 := by
          rw [hx]
          split
          · exact wd_lt _
          · decide
        have hy1 : y < 4294967296 := by
          rw [hy]
          split
          · exact wd_lt _
          · decide
        refine hR 60 34 _ _ _ _ _ _ rfl ?_
        refine ⟨k'.1, _, k'.2.1, k'.2.2.1, ?_, ?_⟩
        · rw [k'.2.2.2.1]
          exact jI_in (by omega) (by omega) (by omega)
        · rw [jI_nat (by omega) (by omega), show Int.toNat (k : Nat) = k from rfl, jL_add, jL_add, jL_I]
          refine ih (k + 1) ((cr + x + y) / 4294967296) _ _ _ (by omega) (hf.sI (by simp) _ _) ?_ (by omega) ?_ (jI_add _ _) ?_
          · exact (congrFun (sI_a h' (by decide) _ _) 1).trans hl
          · rw [mag_put (sI_row h' 4 k _).1 (sI_row h' 4 k _).2, wd_jI, pm_s, pm_s, ← hx, ← hy]
            have e1 : (((cr : Int) + (x + y)) % 4294967296).toNat = (cr + x + y) % 4294967296 := by omega
            rw [e1, Nat.pow_succ]
            have e2 := Nat.div_add_mod (cr + x + y) 4294967296
            have e3 : (cr + x + y) / 4294967296 * (4294967296 ^ k * 4294967296) = (4294967296 * ((cr + x + y) / 4294967296)) * 4294967296 ^ k := by grind
            rw [e3]
            have e4 : mag (h'.1 4) k + (cr + x + y) % 4294967296 * 4294967296 ^ k + 4294967296 * ((cr + x + y) / 4294967296) * 4294967296 ^ k = mag (h'.1 4) k + (4294967296 * ((cr + x + y) / 4294967296) + (cr + x + y) % 4294967296) * 4294967296 ^ k := by grind
            rw [e4, e2]
            grind
          · rw [jL_ushr (K := 32) 32 (by decide) rfl]
            congr 1
            omega
      have r49 : ∀ (x : Nat) (xL : Int64), x = (if k < na then wd (h.1 (a + 1) k) else 0) → xL = jL x → Run 49 [some (.ref 3), some (.ref a), some (.ref b), some (.long (jL cr)), none, some (.int (jI k))] [.long xL, .long (jL cr)] h' (0, 0) := by
        rintro x xL hx rfl
        refine hR 60 25 _ _ _ _ _ _ rfl ?_
        refine ⟨b0'.1, ?_⟩
        rw [lb]
        refine ⟨fun c => ?_, fun c => ?_⟩
        · simp (disch := omega) only [mj_lcm, jI_lt, jI_le, jI_eq, jL_lt, jL_le, jL_eq, jI_lt0, jI_0le, jI_0lt, jI_le0, jI_eq0, jL_eq0, jI_L, jI_add, jI_sub, jI_mul, jI_neg, jL_add, jL_sub, jL_mul, jL_neg, jL_I, jI_div, jI_mod, jL_div, jL_mod] at c
          exact r68 x 0 _ _ hx (by rw [if_neg (by omega)]) rfl rfl
        · simp (disch := omega) only [mj_lcm, jI_lt, jI_le, jI_eq, jL_lt, jL_le, jL_eq, jI_lt0, jI_0le, jI_0lt, jI_le0, jI_eq0, jL_eq0, jI_L, jI_add, jI_sub, jI_mul, jI_neg, jL_add, jL_sub, jL_mul, jL_neg, jL_I, jI_div, jI_mod, jL_div, jL_mod] at c
          refine ⟨b0'.1, jcall (ct_32 G b0' (by omega) (by omega)) ?_⟩
          rw [show Int.toNat (k : Nat) = k from rfl, wb]
          exact r68 x _ _ _ hx (by rw [if_pos (by omega)]) rfl rfl
      refine hR 60 11 _ _ _ _ _ _ rfl ?_
      refine ⟨k'.1, ?_⟩
      rw [hl]
      refine ⟨fun c => ?_, fun c => ⟨a0'.1, ?_⟩⟩
      · simp (disch := omega) only [mj_lcm, jI_lt, jI_le, jI_eq, jL_lt, jL_le, jL_eq, jI_lt0, jI_0le, jI_0lt, jI_le0, jI_eq0, jL_eq0, jI_L, jI_add, jI_sub, jI_mul, jI_neg, jL_add, jL_sub, jL_mul, jL_neg, jL_I, jI_div, jI_mod, jL_div, jL_mod] at c
        omega
      · rw [la]
        refine ⟨fun c2 => ?_, fun c2 => ?_⟩
        · simp (disch := omega) only [mj_lcm, jI_lt, jI_le, jI_eq, jL_lt, jL_le, jL_eq, jI_lt0, jI_0le, jI_0lt, jI_le0, jI_eq0, jL_eq0, jI_L, jI_add, jI_sub, jI_mul, jI_neg, jL_add, jL_sub, jL_mul, jL_neg, jL_I, jI_div, jI_mod, jL_div, jL_mod] at c2
          exact r49 0 _ (by rw [if_neg (by omega)]) rfl
        · simp (disch := omega) only [mj_lcm, jI_lt, jI_le, jI_eq, jL_lt, jL_le, jL_eq, jI_lt0, jI_0le, jI_0lt, jI_le0, jI_eq0, jL_eq0, jI_L, jI_add, jI_sub, jI_mul, jI_neg, jL_add, jL_sub, jL_mul, jL_neg, jL_I, jI_div, jI_mod, jL_div, jL_mod] at c2
          refine ⟨a0'.1, jcall (ct_32 G a0' (by omega) (by omega)) ?_⟩
          rw [show Int.toNat (k : Nat) = k from rfl, wa]
          exact r49 _ _ (by rw [if_pos (by omega)]) rfl
  refine hR 60 0 _ _ _ _ _ _ rfl ?_
  refine ⟨a0.1, b0.1, ?_⟩
  rw [a2, b2]
  refine jcall (ct_43 G (by omega) (by omega) (by omega) (by omega) h) ?_
  refine ⟨hk.1, ?_⟩
  obtain ⟨N, hN⟩ : ∃ N : Nat, (if (na : Int) < nb then (nb : Int) else na) = N ∧ na ≤ N ∧ nb ≤ N ∧ N ≤ 1024 := by
    by_cases g : (na : Int) < nb
    · exact ⟨nb, by rw [if_pos g], by omega, by omega, by omega⟩
    · exact ⟨na, by rw [if_neg g], by omega, by omega, by omega⟩
  rw [hN.1]
  exact loop N hN.2.2.2 hN.2.1 hN.2.2.1 N 0 0 _ _ _ (by omega) ((FrI.refl _ h).sI (by simp) _ _) (sI_at _ _ _ _) (by decide) (by rw [pm_0, pm_0]; rfl) rfl rfl
