/-! the model: sizes are compared -/
theorem cmp_dgt {a b : Int} {k : Nat} (ha : 0 ≤ a) (hb : 0 ≤ b) (hq : a / pB (k + 1) = b / pB (k + 1)) (hk : k = 0 ∨ dgt a k ≠ dgt b k) : (dgt a k - dgt b k < 0 ↔ a < b) ∧ (dgt a k - dgt b k = 0 ↔ a = b) := by
  have q1 := q_next a k
  have q2 := q_next b k
  rw [hq] at q1
  rcases hk with rfl | hk
  · rw [pB_0, Int.ediv_one] at q1 q2
    omega
  · have hp := pB_pos k
    have h1 := Int.mul_ediv_add_emod a (pB k)
    have h2 := Int.mul_ediv_add_emod b (pB k)
    have lt : ∀ {x y : Int}, x / pB k < y / pB k → x < y := by
      intro x y h
      rcases Int.lt_or_le x y with z | z
      · exact z
      · have := Int.ediv_le_ediv hp z
        omega
    rcases Int.lt_or_le (dgt a k) (dgt b k) with z | z
    · have := lt (x := a) (y := b) (by omega)
      omega
    · have := lt (x := b) (y := a) (by omega)
      omega
abbrev l255 (i j : Int) (one two k : Int32) (x6 : Option Value) : mj_Ls := [some (.ref 1412), some (.int (jI i)), some (.int (jI j)), some (.int one), some (.int two), some (.int k), x6]
/-- FormHouseModel.sizes(II)I; cuts at [6, 13, 22, 27, 32, 40, 45, 68, 85, 89, 94, 99, 104] -/
def cl_255_2 : List mj_E := (89, true, .aload_n 0, 1, 0, 0, 0, 0, 0) ::
  (90, false, .iload_n 1, 1, 0, 0, 0, 0, 0) ::
  (91, false, .invokevirtual 339, 3, 241, 1, 17, 0, 0) ::
  (94, true, .iload 4, 2, 0, 0, 0, 0, 0) ::
  (96, false, .ifCond .eq 8, 3, 56, 0, 0, 0, 0) ::
  (99, true, .aload_n 0, 1, 0, 0, 0, 0, 0) ::
  (100, false, .iload_n 2, 1, 0, 0, 0, 0, 0) ::
  (101, false, .invokevirtual 339, 3, 241, 1, 17, 0, 0) ::
  (104, true, .iload 6, 2, 0, 0, 0, 0, 0) ::
  (106, false, .ireturn, 1, 0, 0, 0, 0, 0) ::
  []
def cl_255_1 : List mj_E := (42, false, .ifCond .le 26, 3, 36, 0, 0, 0, 0) ::
  (45, true, .aload_n 0, 1, 0, 0, 0, 0, 0) ::
  (46, false, .iload_n 1, 1, 0, 0, 0, 0, 0) ::
  (47, false, .iload 5, 2, 0, 0, 0, 0, 0) ::
  (49, false, .invokevirtual 316, 3, 237, 2, 17, 0, 0) ::
  (52, false, .aload_n 0, 1, 0, 0, 0, 0, 0) ::
  (53, false, .iload_n 2, 1, 0, 0, 0, 0, 0) ::
  (54, false, .iload 5, 2, 0, 0, 0, 0, 0) ::
  (56, false, .invokevirtual 316, 3, 237, 2, 17, 0, 0) ::
  (59, false, .if_icmp .ne 9, 3, 36, 0, 0, 0, 0) ::
  (62, false, .iinc 5 (-1), 3, 0, 0, 0, jI (-1), 0) ::
  (65, false, .goto (-25), 3, 23, 0, 0, 0, 0) ::
  (68, true, .aload_n 0, 1, 0, 0, 0, 0, 0) ::
  (69, false, .iload_n 1, 1, 0, 0, 0, 0, 0) ::
  (70, false, .iload 5, 2, 0, 0, 0, 0, 0) ::
  (72, false, .invokevirtual 316, 3, 237, 2, 17, 0, 0) ::
  (75, false, .aload_n 0, 1, 0, 0, 0, 0, 0) ::
  (76, false, .iload_n 2, 1, 0, 0, 0, 0, 0) ::
  (77, false, .iload 5, 2, 0, 0, 0, 0, 0) ::
  (79, false, .invokevirtual 316, 3, 237, 2, 17, 0, 0) ::
  (82, false, .isub, 1, 0, 0, 0, 0, 0) ::
  (83, false, .istore 6, 2, 0, 0, 0, 0, 0) ::
  (85, true, .iload_n 3, 1, 0, 0, 0, 0, 0) ::
  (86, false, .ifCond .eq 8, 3, 51, 0, 0, 0, 0) ::
  cl_255_2
def cl_255_0 : List mj_E := (0, false, .aload_n 0, 1, 0, 0, 0, 0, 0) ::
  (1, false, .iload_n 1, 1, 0, 0, 0, 0, 0) ::
  (2, false, .invokevirtual 322, 3, 238, 1, 17, 0, 0) ::
  (5, false, .istore_n 3, 1, 0, 0, 0, 0, 0) ::
  (6, true, .aload_n 0, 1, 0, 0, 0, 0, 0) ::
  (7, false, .iload_n 2, 1, 0, 0, 0, 0, 0) ::
  (8, false, .invokevirtual 322, 3, 238, 1, 17, 0, 0) ::
  (11, false, .istore 4, 2, 0, 0, 0, 0, 0) ::
  (13, true, .iload_n 3, 1, 0, 0, 0, 0, 0) ::
  (14, false, .ifCond .eq 8, 3, 13, 0, 0, 0, 0) ::
  (17, false, .aload_n 0, 1, 0, 0, 0, 0, 0) ::
  (18, false, .iload_n 1, 1, 0, 0, 0, 0, 0) ::
  (19, false, .invokevirtual 339, 3, 241, 1, 17, 0, 0) ::
  (22, true, .iload 4, 2, 0, 0, 0, 0, 0) ::
  (24, false, .ifCond .eq 8, 3, 18, 0, 0, 0, 0) ::
  (27, true, .aload_n 0, 1, 0, 0, 0, 0, 0) ::
  (28, false, .iload_n 2, 1, 0, 0, 0, 0, 0) ::
  (29, false, .invokevirtual 339, 3, 241, 1, 17, 0, 0) ::
  (32, true, .aload_n 0, 1, 0, 0, 0, 0, 0) ::
  (33, false, .getfield 313, 3, 17, 48, 0, 0, 0) ::
  (36, false, .iconst 1, 1, 0, 0, 0, jI 1, 0) ::
  (37, false, .isub, 1, 0, 0, 0, 0, 0) ::
  (38, false, .istore 5, 2, 0, 0, 0, 0, 0) ::
  (40, true, .iload 5, 2, 0, 0, 0, 0, 0) ::
  cl_255_1
def cd_255 : List mj_E := cl_255_0
def cx_255 : mj_X := (1, [], [])
theorem tb_255 : mj_tab (mj_mt 255) cx_255 cd_255 mj_mh [(0, 0, 0), (0, 0, 0), (8100, 0, 0), (0, 0, 0), (0, 0, 0), (0, 0, 0), (8100, 0, 0), (0, 0, 0), (0, 0, 0), (0, 0, 0), (0, 0, 0), (0, 0, 0), (8112, 0, 0), (0, 0, 0), (0, 0, 0), (0, 0, 0), (0, 0, 0), (8112, 0, 0), (0, 0, 0), (7147, 0, 0), (0, 0, 0), (0, 0, 0), (0, 0, 0), (0, 0, 0), (0, 0, 0), (0, 0, 0), (0, 0, 0), (0, 0, 0), (8096, 0, 0), (0, 0, 0), (0, 0, 0), (0, 0, 0), (8096, 0, 0), (0, 0, 0), (0, 0, 0), (0, 0, 0), (0, 0, 0), (0, 0, 0), (0, 0, 0), (8096, 0, 0), (0, 0, 0), (0, 0, 0), (0, 0, 0), (8096, 0, 0), (0, 0, 0), (0, 0, 0), (0, 0, 0), (0, 0, 0), (0, 0, 0), (0, 0, 0), (8112, 0, 0), (0, 0, 0), (0, 0, 0), (0, 0, 0), (0, 0, 0), (8112, 0, 0), (0, 0, 0), (0, 0, 0)] = true := mj_tab_f (by decide +kernel)
theorem ct_255 (G : mj_G) {h : mj_H} (L : isLam h) {n : Nat} {V : Nat → Int} (hs : isS h n V) {i j : Nat} (hi : i < 4) (hj : j < 4) (hij : i ≠ j) (si : stR n (V i)) (sj : stR n (V j)) : mj_Ct G (mj_mt 255) 0 0 [.ref 1412, .int (jI i), .int (jI j)] h (fun oc h' => (∃ o : Int, oc = .returned (some (.int (jI o))) ∧ (-65536 < o ∧ o < 65536) ∧ (o < 0 ↔ (V i).natAbs < (V j).natAbs) ∧ (o = 0 ↔ (V i).natAbs = (V j).natAbs)) ∧ isS h' n V ∧ FrM i48 noT s40 h h') := by
  obtain ⟨oneV, hone⟩ : ∃ b : Int, b = if V i < 0 then 1 else 0 := ⟨_, rfl⟩
  obtain ⟨twoV, htwo⟩ : ∃ b : Int, b = if V j < 0 then 1 else 0 := ⟨_, rfl⟩
  have hn8 := hs.1.2.1
  have hn2 := hs.1.2.2
  have ri : rgD n ((V i).natAbs : Int) := by
    obtain ⟨a1, a2⟩ := si
    constructor <;> omega
  have rj : rgD n ((V j).natAbs : Int) := by
    obtain ⟨a1, a2⟩ := sj
    constructor <;> omega
  have o1 : (V i < 0 ∧ oneV = 1) ∨ (¬ V i < 0 ∧ oneV = 0) := by
    by_cases z : V i < 0
    · exact Or.inl ⟨z, by rw [hone, if_pos z]⟩
    · exact Or.inr ⟨z, by rw [hone, if_neg z]⟩
  have o2 : (V j < 0 ∧ twoV = 1) ∨ (¬ V j < 0 ∧ twoV = 0) := by
    by_cases z : V j < 0
    · exact Or.inl ⟨z, by rw [htwo, if_pos z]⟩
    · exact Or.inr ⟨z, by rw [htwo, if_neg z]⟩
  refine mj_Ct_of mj_ok tb_255 rfl rfl (Nat.le_of_ble_eq_true rfl) (fun Run hR => ?_)
  have r104 : ∀ (o : Int) (h' : mj_H) (k : Int32), (-65536 < o ∧ o < 65536) → (o < 0 ↔ (V i).natAbs < (V j).natAbs) → (o = 0 ↔ (V i).natAbs = (V j).natAbs) → isS h' n V → FrM i48 noT s40 h h' → Run 104 (l255 i j (jI oneV) (jI twoV) k (some (.int (jI o)))) [] h' (0, 0) := by
    intro o h' k b1 b2 b3 s' F'
    refine hR 60 56 _ _ _ _ _ _ rfl ?_
    exact ⟨⟨o, rfl, b1, b2, b3⟩, s', F'⟩
  have r94 : ∀ (o : Int) (h' : mj_H) (k : Int32), (-65536 < o ∧ o < 65536) → (o < 0 ↔ (V i).natAbs < (V j).natAbs) → (o = 0 ↔ (V i).natAbs = (V j).natAbs) → isS h' n (upN V j ((V j).natAbs : Int)) → FrM i48 noT s40 h h' → Run 94 (l255 i j (jI oneV) (jI twoV) k (some (.int (jI o)))) [] h' (0, 0) := by
    intro o h' k b1 b2 b3 s' F'
    have L' := F'.lay L
    have vj : upN V j ((V j).natAbs : Int) j = ((V j).natAbs : Int) := if_pos rfl
    refine hR 60 51 _ _ _ _ _ _ rfl ?_
    rcases o2 with ⟨z, e⟩ | ⟨z, e⟩
    · have r99 : Run 99 (l255 i j (jI oneV) (jI twoV) k (some (.int (jI o)))) [] h' (0, 0) := by
        have dj := (s'.2.2 j hj).1
        rw [vj] at dj
        refine hR 60 53 _ _ _ _ _ _ rfl ?_
        refine ⟨L'.K 1412 rfl, jcallP (ct_241 G L'.Md (by omega) s'.1 dj) ?_⟩
        rintro oc h2 ⟨rfl, d2, F2⟩
        rw [show -((V j).natAbs : Int) = V j by omega] at d2
        refine r104 o h2 _ b1 b2 b3 ((s'.put F2 d2 sj.rg).congr (fun l hl => ?_)) (F'.trans F2.toM)
        unfold upN
        split
        · rename_i q
          rw [q]
        · rfl
      rw [e]
      exact ⟨fun c => absurd c (by decide), fun c => e ▸ r99⟩
    · have r := r104 o h' k b1 b2 b3 (s'.congr (fun l hl => by
        unfold upN
        by_cases q : l = j
        · rw [if_pos q, q]
          omega
        · rw [if_neg q])) F'
      rw [e] at r ⊢
      exact ⟨fun c => r, fun c => absurd rfl c⟩
  have r85 : ∀ (o : Int) (oI : Int32) (h' : mj_H) (k : Int32), (-65536 < o ∧ o < 65536) → (o < 0 ↔ (V i).natAbs < (V j).natAbs) → (o = 0 ↔ (V i).natAbs = (V j).natAbs) → isS h' n (upN (upN V i ((V i).natAbs : Int)) j ((V j).natAbs : Int)) → FrM i48 noT s40 h h' → oI = jI o → Run 85 (l255 i j (jI oneV) (jI twoV) k (some (.int oI))) [] h' (0, 0) := by
    rintro o oI h' k b1 b2 b3 s' F' rfl
    have L' := F'.lay L
    have vi : upN (upN V i ((V i).natAbs : Int)) j ((V j).natAbs : Int) i = ((V i).natAbs : Int) := by
      unfold upN
      rw [if_neg hij, if_pos rfl]
    refine hR 60 46 _ _ _ _ _ _ rfl ?_
    rcases o1 with ⟨z, e⟩ | ⟨z, e⟩
    · have r89 : Run 89 (l255 i j (jI oneV) (jI twoV) k (some (.int (jI o)))) [] h' (0, 0) := by
        have di := (s'.2.2 i hi).1
        rw [vi] at di
        refine hR 60 48 _ _ _ _ _ _ rfl ?_
        refine ⟨L'.K 1412 rfl, jcallP (ct_241 G L'.Md (by omega) s'.1 di) ?_⟩
        rintro oc h2 ⟨rfl, d2, F2⟩
        rw [show -((V i).natAbs : Int) = V i by omega] at d2
        refine r94 o h2 _ b1 b2 b3 ((s'.put F2 d2 si.rg).congr (fun l hl => ?_)) (F'.trans F2.toM)
        unfold upN
        by_cases q : l = i
        · rw [if_pos q, if_neg (fun w => hij (q.symm.trans w)), q]
        · rw [if_neg q, if_neg q]
      rw [e]
      exact ⟨fun c => absurd c (by decide), fun c => e ▸ r89⟩
    · have r := r94 o h' k b1 b2 b3 (s'.congr (fun l hl => by
        unfold upN
        by_cases q : l = j
        · rw [if_pos q, if_pos q]
        · rw [if_neg q, if_neg q]
          by_cases q2 : l = i
          · rw [if_pos q2, q2]
            omega
          · rw [if_neg q2])) F'
      rw [e] at r ⊢
      exact ⟨fun c => r, fun c => absurd rfl c⟩
  have main : ∀ (h' : mj_H), isS h' n (upN (upN V i ((V i).natAbs : Int)) j ((V j).natAbs : Int)) → FrM i48 noT s40 h h' → ∀ (x5 x6 : Option Value), Run 32 [some (.ref 1412), some (.int (jI i)), some (.int (jI j)), some (.int (jI oneV)), some (.int (jI twoV)), x5, x6] [] h' (0, 0) := by
    intro h' s' F'
    have L' := F'.lay L
    have hm := L'.Md
    have di : isD h' i n ((V i).natAbs : Int) := by
      have := (s'.2.2 i hi).1
      rwa [show upN (upN V i ((V i).natAbs : Int)) j ((V j).natAbs : Int) i = ((V i).natAbs : Int) by unfold upN; rw [if_neg hij, if_pos rfl]] at this
    have dj : isD h' j n ((V j).natAbs : Int) := by
      have := (s'.2.2 j hj).1
      rwa [show upN (upN V i ((V i).natAbs : Int)) j ((V j).natAbs : Int) j = ((V j).natAbs : Int) from if_pos rfl] at this
    obtain ⟨a, hA⟩ : ∃ a : Int, a = ((V i).natAbs : Int) := ⟨_, rfl⟩
    obtain ⟨b, hB⟩ : ∃ b : Int, b = ((V j).natAbs : Int) := ⟨_, rfl⟩
    rw [← hA] at di ri
    rw [← hB] at dj rj
    have ab : (a < b ↔ (V i).natAbs < (V j).natAbs) ∧ (a = b ↔ (V i).natAbs = (V j).natAbs) := by omega
    have r68 : ∀ (k : Nat) (x6 : Option Value), k < n → a / pB (k + 1) = b / pB (k + 1) → (k = 0 ∨ dgt a k ≠ dgt b k) → Run 68 (l255 i j (jI oneV) (jI twoV) (jI k) x6) [] h' (0, 0) := by
      intro k x6 hk hq hd
      have c := cmp_dgt (show 0 ≤ a by omega) (show 0 ≤ b by omega) hq hd
      have da := dgt_rng a k
      have db := dgt_rng b k
      refine hR 60 36 _ _ _ _ _ _ rfl ?_
      refine ⟨hm.1, jcall (ct_237 G hm (by omega) (by omega)) ⟨hm.1, jcall (ct_237 G hm (by omega) (by omega)) ?_⟩⟩
      rw [di k hk, dj k hk]
      exact r85 (dgt a k - dgt b k) _ h' _ (by omega) (by rw [c.1]; exact ab.1) (by rw [c.2]; exact ab.2) s' F' (by rw [jI_sub])
    have r40 : ∀ (k : Nat) (kI : Int32) (x6 : Option Value), k < n → a / pB (k + 1) = b / pB (k + 1) → kI = jI k → Run 40 (l255 i j (jI oneV) (jI twoV) kI x6) [] h' (0, 0) := by
      intro k
      induction k with
      | zero =>
        rintro kI x6 hk hq rfl
        refine hR 60 23 _ _ _ _ _ _ rfl ?_
        refine ⟨fun c => r68 0 _ hk hq (Or.inl rfl), fun c => ?_⟩
        simp (disch := omega) only [mj_lcm, jI_lt, jI_le, jI_eq, jL_lt, jL_le, jL_eq, jI_lt0, jI_0le, jI_0lt, jI_le0, jI_eq0, jL_eq0, jI_L, jI_add, jI_sub, jI_mul, jI_neg, jL_add, jL_sub, jL_mul, jL_neg, jL_I, jI_div, jI_mod, jL_div, jL_mod] at c
        omega
      | succ k ih =>
        rintro kI x6 hk hq rfl
        have da := dgt_rng a (k + 1)
        have db := dgt_rng b (k + 1)
        have r45 : Run 45 (l255 i j (jI oneV) (jI twoV) (jI (k + 1 : Nat)) x6) [] h' (0, 0) := by
          refine hR 60 25 _ _ _ _ _ _ rfl ?_
          refine ⟨hm.1, jcall (ct_237 G hm (by omega) (by omega)) ⟨hm.1, jcall (ct_237 G hm (by omega) (by omega)) ?_⟩⟩
          rw [di _ hk, dj _ hk]
          refine ⟨fun c => ?_, fun c => ?_⟩
          · rw [jI_eq (by omega) (by omega) (by omega) (by omega)] at c
            refine ih _ _ (by omega) ?_ ?_
            · rw [q_next a (k + 1), q_next b (k + 1), hq, c]
            · rw [jI_add]
              congr 1
              omega
          · rw [jI_eq (by omega) (by omega) (by omega) (by omega)] at c
            exact r68 (k + 1) _ hk hq (Or.inr c)
        refine hR 60 23 _ _ _ _ _ _ rfl ?_
        refine ⟨fun c => ?_, fun c => r45⟩
        simp (disch := omega) only [mj_lcm, jI_lt, jI_le, jI_eq, jL_lt, jL_le, jL_eq, jI_lt0, jI_0le, jI_0lt, jI_le0, jI_eq0, jL_eq0, jI_L, jI_add, jI_sub, jI_mul, jI_neg, jL_add, jL_sub, jL_mul, jL_neg, jL_I, jI_div, jI_mod, jL_div, jL_mod] at c
        omega
    intro x5 x6
    refine hR 60 18 _ _ _ _ _ _ rfl ?_
    refine ⟨hm.1, ?_⟩
    rw [s'.1.1]
    refine r40 (n - 1) _ _ (by omega) ?_ ?_
    · rw [show n - 1 + 1 = n by omega, q_sgn (by omega) ri, q_sgn (by omega) rj, if_neg (by omega), if_neg (by omega)]
    · rw [jI_sub]
      congr 1
      omega
  have r22 : ∀ (h' : mj_H), isS h' n (upN V i ((V i).natAbs : Int)) → FrM i48 noT s40 h h' → ∀ (x5 x6 : Option Value), Run 22 [some (.ref 1412), some (.int (jI i)), some (.int (jI j)), some (.int (jI oneV)), some (.int (jI twoV)), x5, x6] [] h' (0, 0) := by
    intro h' s' F' x5 x6
    have L' := F'.lay L
    have vj : upN V i ((V i).natAbs : Int) j = V j := if_neg (Ne.symm hij)
    refine hR 60 13 _ _ _ _ _ _ rfl ?_
    rcases o2 with ⟨z, e⟩ | ⟨z, e⟩
    · have r27 : Run 27 [some (.ref 1412), some (.int (jI i)), some (.int (jI j)), some (.int (jI oneV)), some (.int (jI twoV)), x5, x6] [] h' (0, 0) := by
        have dj := (s'.2.2 j hj).1
        rw [vj] at dj
        refine hR 60 15 _ _ _ _ _ _ rfl ?_
        refine ⟨L'.K 1412 rfl, jcallP (ct_241 G L'.Md (by omega) s'.1 dj) ?_⟩
        rintro oc h2 ⟨rfl, d2, F2⟩
        rw [show -(V j) = ((V j).natAbs : Int) by omega] at d2
        exact main h2 (s'.put F2 d2 rj) (F'.trans F2.toM) _ _
      rw [e]
      exact ⟨fun c => absurd c (by decide), fun c => e ▸ r27⟩
    · have r := main h' (s'.congr (fun l hl => by
        show upN V i ((V i).natAbs : Int) l = (if l = j then ((V j).natAbs : Int) else upN V i ((V i).natAbs : Int) l)
        by_cases q : l = j
        · rw [if_pos q, q, vj]
          omega
        · rw [if_neg q])) F' x5 x6
      rw [e] at r ⊢
      exact ⟨fun c => r, fun c => absurd rfl c⟩
  have r13 : ∀ (x5 x6 : Option Value), Run 13 [some (.ref 1412), some (.int (jI i)), some (.int (jI j)), some (.int (jI oneV)), some (.int (jI twoV)), x5, x6] [] h (0, 0) := by
    intro x5 x6
    refine hR 60 8 _ _ _ _ _ _ rfl ?_
    rcases o1 with ⟨z, e⟩ | ⟨z, e⟩
    · refine ⟨fun c => ?_, fun c => ⟨L.K 1412 rfl, jcallP (ct_241 G L.Md (by omega) hs.1 (hs.2.2 i hi).1) ?_⟩⟩
      · rw [e] at c
        exact absurd c (by decide)
      · rintro oc h2 ⟨rfl, d2, F2⟩
        rw [show -(V i) = ((V i).natAbs : Int) by omega] at d2
        exact r22 h2 (hs.put F2 d2 ri) F2.toM _ _
    · have r := r22 h (hs.congr (fun l hl => by
        unfold upN
        by_cases q : l = i
        · rw [if_pos q, q]
          omega
        · rw [if_neg q])) (FrM.refl _ _ _ h) x5 x6
      rw [e] at r ⊢
      exact ⟨fun c => r, fun c => absurd rfl c⟩
  have r6 : ∀ (x4 x5 x6 : Option Value), Run 6 [some (.ref 1412), some (.int (jI i)), some (.int (jI j)), some (.int (jI oneV)), x4, x5, x6] [] h (0, 0) := by
    intro x4 x5 x6
    refine hR 60 4 _ _ _ _ _ _ rfl ?_
    refine ⟨L.K 1412 rfl, jcall (ct_238' G L.Md (by omega) hs.1 (hs.2.2 j hj).1 sj.rg) ?_⟩
    rw [← htwo]
    exact r13 _ _
  refine hR 60 0 _ _ _ _ _ _ rfl ?_
  refine ⟨L.K 1412 rfl, jcall (ct_238' G L.Md (by omega) hs.1 (hs.2.2 i hi).1 si.rg) ?_⟩
  rw [← hone]
  exact r6 _ _ _
/-- the first solution is better than the best one -/
def btQ (V : Nat → Int) : Prop := (V 1).natAbs < (V 3).natAbs ∨ ((V 1).natAbs = (V 3).natAbs ∧ ((V 0).natAbs < (V 2).natAbs ∨ ((V 0).natAbs = (V 2).natAbs ∧ V 2 < 0 ∧ ¬ V 0 < 0)))
/-- FormHouseModel.isBetter()Z; cuts at [7, 21, 28] -/
def cl_254_1 : List mj_E := (40, false, .iconst 0, 1, 0, 0, 0, jI 0, 0) ::
  (41, false, .goto 24, 3, 37, 0, 0, 0, 0) ::
  (44, false, .aload_n 0, 1, 0, 0, 0, 0, 0) ::
  (45, false, .iconst 2, 1, 0, 0, 0, jI 2, 0) ::
  (46, false, .invokevirtual 322, 3, 238, 1, 17, 0, 0) ::
  (49, false, .ifCond .eq 15, 3, 36, 0, 0, 0, 0) ::
  (52, false, .aload_n 0, 1, 0, 0, 0, 0, 0) ::
  (53, false, .iconst 0, 1, 0, 0, 0, jI 0, 0) ::
  (54, false, .invokevirtual 322, 3, 238, 1, 17, 0, 0) ::
  (57, false, .ifCond .ne 7, 3, 36, 0, 0, 0, 0) ::
  (60, false, .iconst 1, 1, 0, 0, 0, jI 1, 0) ::
  (61, false, .goto 4, 3, 37, 0, 0, 0, 0) ::
  (64, false, .iconst 0, 1, 0, 0, 0, jI 0, 0) ::
  (65, false, .ireturn, 1, 0, 0, 0, 0, 0) ::
  []
def cl_254_0 : List mj_E := (0, false, .aload_n 0, 1, 0, 0, 0, 0, 0) ::
  (1, false, .iconst 1, 1, 0, 0, 0, jI 1, 0) ::
  (2, false, .iconst 3, 1, 0, 0, 0, jI 3, 0) ::
  (3, false, .invokevirtual 345, 3, 255, 2, 17, 0, 0) ::
  (6, false, .istore_n 1, 1, 0, 0, 0, 0, 0) ::
  (7, true, .iload_n 1, 1, 0, 0, 0, 0, 0) ::
  (8, false, .ifCond .eq 13, 3, 13, 0, 0, 0, 0) ::
  (11, false, .iload_n 1, 1, 0, 0, 0, 0, 0) ::
  (12, false, .ifCond .ge 7, 3, 11, 0, 0, 0, 0) ::
  (15, false, .iconst 1, 1, 0, 0, 0, jI 1, 0) ::
  (16, false, .goto 4, 3, 12, 0, 0, 0, 0) ::
  (19, false, .iconst 0, 1, 0, 0, 0, jI 0, 0) ::
  (20, false, .ireturn, 1, 0, 0, 0, 0, 0) ::
  (21, true, .aload_n 0, 1, 0, 0, 0, 0, 0) ::
  (22, false, .iconst 0, 1, 0, 0, 0, jI 0, 0) ::
  (23, false, .iconst 2, 1, 0, 0, 0, jI 2, 0) ::
  (24, false, .invokevirtual 345, 3, 255, 2, 17, 0, 0) ::
  (27, false, .istore_n 1, 1, 0, 0, 0, 0, 0) ::
  (28, true, .iload_n 1, 1, 0, 0, 0, 0, 0) ::
  (29, false, .ifCond .eq 15, 3, 26, 0, 0, 0, 0) ::
  (32, false, .iload_n 1, 1, 0, 0, 0, 0, 0) ::
  (33, false, .ifCond .ge 7, 3, 24, 0, 0, 0, 0) ::
  (36, false, .iconst 1, 1, 0, 0, 0, jI 1, 0) ::
  (37, false, .goto 28, 3, 37, 0, 0, 0, 0) ::
  cl_254_1
def cd_254 : List mj_E := cl_254_0
def cx_254 : mj_X := (4, [], [])
theorem tb_254 : mj_tab (mj_mt 254) cx_254 cd_254 mj_mh [(0, 0, 0), (0, 0, 0), (0, 0, 0), (8169, 0, 0), (0, 0, 0), (0, 0, 0), (0, 0, 0), (0, 0, 0), (0, 0, 0), (0, 0, 0), (0, 0, 0), (0, 0, 0), (0, 0, 0), (0, 0, 0), (0, 0, 0), (0, 0, 0), (8169, 0, 0), (0, 0, 0), (0, 0, 0), (0, 0, 0), (0, 0, 0), (0, 0, 0), (0, 0, 0), (0, 0, 0), (0, 0, 0), (0, 0, 0), (0, 0, 0), (0, 0, 0), (8100, 0, 0), (0, 0, 0), (0, 0, 0), (0, 0, 0), (8100, 0, 0), (0, 0, 0), (0, 0, 0), (0, 0, 0), (0, 0, 0), (0, 0, 0)] = true := mj_tab_f (by decide +kernel)
theorem ct_254 (G : mj_G) {h : mj_H} (L : isLam h) {n : Nat} {V : Nat → Int} (hs : isS h n V) (hst : ∀ i, i < 4 → stR n (V i)) : mj_Ct G (mj_mt 254) 0 0 [.ref 1412] h (fun oc h' => (∃ b : Int, oc = .returned (some (.int (jI b))) ∧ ((b = 1 ∧ btQ V) ∨ (b = 0 ∧ ¬ btQ V))) ∧ isS h' n V ∧ FrM i48 noT s40 h h') := by
  refine mj_Ct_of mj_ok tb_254 rfl rfl (Nat.le_of_ble_eq_true rfl) (fun Run hR => ?_)
  have yes : btQ V → ∀ h' : mj_H, isS h' n V → FrM i48 noT s40 h h' → (fun oc h' => (∃ b : Int, oc = .returned (some (.int (jI b))) ∧ ((b = 1 ∧ btQ V) ∨ (b = 0 ∧ ¬ btQ V))) ∧ isS h' n V ∧ FrM i48 noT s40 h h') (Outcome.returned (some (.int (jI 1)))) h' := fun q h' s' F' => ⟨⟨1, rfl, Or.inl ⟨rfl, q⟩⟩, s', F'⟩
  have no : ¬ btQ V → ∀ h' : mj_H, isS h' n V → FrM i48 noT s40 h h' → (fun oc h' => (∃ b : Int, oc = .returned (some (.int (jI b))) ∧ ((b = 1 ∧ btQ V) ∨ (b = 0 ∧ ¬ btQ V))) ∧ isS h' n V ∧ FrM i48 noT s40 h h') (Outcome.returned (some (.int (jI 0)))) h' := fun q h' s' F' => ⟨⟨0, rfl, Or.inr ⟨rfl, q⟩⟩, s', F'⟩
  have r28 : ∀ (o : Int) (h' : mj_H), (V 1).natAbs = (V 3).natAbs → (-65536 < o ∧ o < 65536) → (o < 0 ↔ (V 0).natAbs < (V 2).natAbs) → (o = 0 ↔ (V 0).natAbs = (V 2).natAbs) → isS h' n V → FrM i48 noT s40 h h' → Run 28 [some (.ref 1412), some (.int (jI o))] [] h' (0, 0) := by
    intro o h' e1 ob o1 o2 s' F'
    have L' := F'.lay L
    refine hR 60 18 _ _ _ _ _ _ rfl ?_
    refine ⟨fun c => ⟨L'.K 1412 rfl, jcall (ct_238' G L'.Md (i := 2) (by omega) s'.1 (s'.2.2 2 (by omega)).1 (s'.2.2 2 (by omega)).2) ?_⟩, fun c => ⟨fun c2 => ⟨Or.inl rfl, ?_⟩, fun c2 => ⟨Or.inr rfl, ?_⟩⟩⟩
    · simp (disch := omega) only [mj_lcm, jI_lt, jI_le, jI_eq, jL_lt, jL_le, jL_eq, jI_lt0, jI_0le, jI_0lt, jI_le0, jI_eq0, jL_eq0, jI_L, jI_add, jI_sub, jI_mul, jI_neg, jL_add, jL_sub, jL_mul, jL_neg, jL_I, jI_div, jI_mod, jL_div, jL_mod] at c
      have e2 := o2.1 c
      by_cases z : V 2 < 0
      · rw [if_pos z]
        refine ⟨fun c3 => absurd c3 (by decide), fun c3 => ⟨L'.K 1412 rfl, jcall (ct_238' G L'.Md (i := 0) (by omega) s'.1 (s'.2.2 0 (by omega)).1 (s'.2.2 0 (by omega)).2) ?_⟩⟩
        by_cases z2 : V 0 < 0
        · rw [if_pos z2]
          refine ⟨fun c4 => absurd c4 (by decide), fun c4 => ⟨Or.inl rfl, no ?_ h' s' F'⟩⟩
          unfold btQ
          omega
        · rw [if_neg z2]
          refine ⟨fun c4 => ⟨Or.inr rfl, yes ?_ h' s' F'⟩, fun c4 => absurd rfl c4⟩
          unfold btQ
          omega
      · rw [if_neg z]
        refine ⟨fun c3 => ⟨Or.inl rfl, no ?_ h' s' F'⟩, fun c3 => absurd rfl c3⟩
        unfold btQ
        omega
    · simp (disch := omega) only [mj_lcm, jI_lt, jI_le, jI_eq, jL_lt, jL_le, jL_eq, jI_lt0, jI_0le, jI_0lt, jI_le0, jI_eq0, jL_eq0, jI_L, jI_add, jI_sub, jI_mul, jI_neg, jL_add, jL_sub, jL_mul, jL_neg, jL_I, jI_div, jI_mod, jL_div, jL_mod] at c c2
      refine no ?_ h' s' F'
      unfold btQ
      omega
    · simp (disch := omega) only [mj_lcm, jI_lt, jI_le, jI_eq, jL_lt, jL_le, jL_eq, jI_lt0, jI_0le, jI_0lt, jI_le0, jI_eq0, jL_eq0, jI_L, jI_add, jI_sub, jI_mul, jI_neg, jL_add, jL_sub, jL_mul, jL_neg, jL_I, jI_div, jI_mod, jL_div, jL_mod] at c c2
      refine yes ?_ h' s' F'
      unfold btQ
      omega
  have r21 : ∀ (h' : mj_H) (x1 : Option Value), (V 1).natAbs = (V 3).natAbs → isS h' n V → FrM i48 noT s40 h h' → Run 21 [some (.ref 1412), x1] [] h' (0, 0) := by
    intro h' x1 e1 s' F'
    have L' := F'.lay L
    refine hR 60 13 _ _ _ _ _ _ rfl ?_
    refine ⟨L'.K 1412 rfl, jcallP (ct_255 G L' s' (i := 0) (j := 2) (by omega) (by omega) (by omega) (hst 0 (by omega)) (hst 2 (by omega))) ?_⟩
    rintro oc h2 ⟨⟨o, rfl, ob, o1, o2⟩, s2, F2⟩
    exact r28 o h2 e1 ob o1 o2 s2 (F'.trans F2)
  have r7 : ∀ (o : Int) (h' : mj_H), (-65536 < o ∧ o < 65536) → (o < 0 ↔ (V 1).natAbs < (V 3).natAbs) → (o = 0 ↔ (V 1).natAbs = (V 3).natAbs) → isS h' n V → FrM i48 noT s40 h h' → Run 7 [some (.ref 1412), some (.int (jI o))] [] h' (0, 0) := by
    intro o h' ob o1 o2 s' F'
    refine hR 60 5 _ _ _ _ _ _ rfl ?_
    refine ⟨fun c => ?_, fun c => ⟨fun c2 => ⟨Or.inl rfl, ?_⟩, fun c2 => ⟨Or.inr rfl, ?_⟩⟩⟩
    · simp (disch := omega) only [mj_lcm, jI_lt, jI_le, jI_eq, jL_lt, jL_le, jL_eq, jI_lt0, jI_0le, jI_0lt, jI_le0, jI_eq0, jL_eq0, jI_L, jI_add, jI_sub, jI_mul, jI_neg, jL_add, jL_sub, jL_mul, jL_neg, jL_I, jI_div, jI_mod, jL_div, jL_mod] at c
      exact r21 h' _ (o2.1 c) s' F'
    · simp (disch := omega) only [mj_lcm, jI_lt, jI_le, jI_eq, jL_lt, jL_le, jL_eq, jI_lt0, jI_0le, jI_0lt, jI_le0, jI_eq0, jL_eq0, jI_L, jI_add, jI_sub, jI_mul, jI_neg, jL_add, jL_sub, jL_mul, jL_neg, jL_I, jI_div, jI_mod, jL_div, jL_mod] at c c2
      refine no ?_ h' s' F'
      unfold btQ
      omega
    · simp (disch := omega) only [mj_lcm, jI_lt, jI_le, jI_eq, jL_lt, jL_le, jL_eq, jI_lt0, jI_0le, jI_0lt, jI_le0, jI_eq0, jL_eq0, jI_L, jI_add, jI_sub, jI_mul, jI_neg, jL_add, jL_sub, jL_mul, jL_neg, jL_I, jI_div, jI_mod, jL_div, jL_mod] at c c2
      refine yes ?_ h' s' F'
      unfold btQ
      omega
  refine hR 60 0 _ _ _ _ _ _ rfl ?_
  refine ⟨L.K 1412 rfl, jcallP (ct_255 G L hs (i := 1) (j := 3) (by omega) (by omega) (by omega) (hst 1 (by omega)) (hst 3 (by omega))) ?_⟩
  rintro oc h2 ⟨⟨o, rfl, ob, o1, o2⟩, s2, F2⟩
  exact r7 o h2 ob o1 o2 s2 F2
/-- FormHouseModel.scale(IJ)V; cuts at [6, 14] -/
def cd_256 : List mj_E := [(0, false, .aload_n 0, 1, 0, 0, 0, 0, 0),
  (1, false, .iconst 4, 1, 0, 0, 0, jI 4, 0),
  (2, false, .lconst 0, 1, 0, 0, 0, 0, jL 0),
  (3, false, .invokevirtual 348, 3, 233, 2, 17, 0, 0),
  (6, true, .aload_n 0, 1, 0, 0, 0, 0, 0),
  (7, false, .iconst 4, 1, 0, 0, 0, jI 4, 0),
  (8, false, .lload_n 2, 1, 0, 0, 0, 0, 0),
  (9, false, .iload_n 1, 1, 0, 0, 0, 0, 0),
  (10, false, .iconst 4, 1, 0, 0, 0, jI 4, 0),
  (11, false, .invokevirtual 332, 3, 250, 4, 17, 0, 0),
  (14, true, .aload_n 0, 1, 0, 0, 0, 0, 0),
  (15, false, .iload_n 1, 1, 0, 0, 0, 0, 0),
  (16, false, .iconst 4, 1, 0, 0, 0, jI 4, 0),
  (17, false, .invokevirtual 336, 3, 240, 2, 17, 0, 0),
  (20, false, .return_, 1, 0, 0, 0, 0, 0)]
def cx_256 : mj_X := (0, [], [])
theorem tb_256 : mj_tab (mj_mt 256) cx_256 cd_256 mj_mh [(0, 0, 0), (0, 0, 0), (0, 0, 0), (8080, 0, 0), (0, 0, 0), (0, 0, 0), (0, 0, 0), (0, 0, 0), (0, 0, 0), (8149, 0, 0), (0, 0, 0), (0, 0, 0), (0, 0, 0), (8108, 0, 0), (0, 0, 0)] = true := mj_tab_f (by decide +kernel)
theorem ct_256 (G : mj_G) {h : mj_H} (L : isLam h) {n : Nat} {V : Nat → Int} (hs : isS h n V) {i : Nat} (hi : i < 4) {g : Int} (hg : -2199023255552 ≤ g ∧ g ≤ 2199023255552) (hr : rgD n (g * V i)) : mj_Ct G (mj_mt 256) 0 0 [.ref 1412, .int (jI i), .long (jL g)] h (fun o h' => o = .returned none ∧ isS h' n (upN V i (g * V i)) ∧ FrM i48 noT s40 h h') := by
  refine mj_Ct_of mj_ok tb_256 rfl rfl (Nat.le_of_ble_eq_true rfl) (fun Run hR => ?_)
  have r14 : ∀ h2 : mj_H, isS h2 n V → isD h2 4 n (g * V i) → FrM i48 noT s40 h h2 → Run 14 [some (.ref 1412), some (.int (jI i)), some (.long (jL g)), none] [] h2 (0, 0) := by
    intro h2 s2 d2 F2
    have L2 := F2.lay L
    refine hR 60 10 _ _ _ _ _ _ rfl ?_
    refine ⟨L2.K 1412 rfl, jcallP (ct_240' G L2.Md (t := i) (f := 4) (by omega) (by omega) (by omega) s2.1 d2) ?_⟩
    rintro o h3 ⟨rfl, d3, F3⟩
    exact ⟨rfl, s2.put F3 d3 hr, F2.trans F3.toM⟩
  have r6 : ∀ h1 : mj_H, isS h1 n V → isD h1 4 n 0 → FrM i48 noT s40 h h1 → Run 6 [some (.ref 1412), some (.int (jI i)), some (.long (jL g)), none] [] h1 (0, 0) := by
    intro h1 s1 d1 F1
    have L1 := F1.lay L
    refine hR 60 4 _ _ _ _ _ _ rfl ?_
    refine ⟨L1.K 1412 rfl, jcallP (ct_250 G L1.Md (t := 4) (i := i) (j := 4) (by omega) (by omega) (by omega) s1.1 hg (s1.2.2 i hi).1 d1) ?_⟩
    rintro o h2 ⟨rfl, d2, F2⟩
    rw [Int.add_zero] at d2
    exact r14 h2 (s1.tmp F2 d2) d2 (F1.trans F2.toM)
  refine hR 60 0 _ _ _ _ _ _ rfl ?_
  refine ⟨L.K 1412 rfl, jcallP (ct_233 G L.Md (i := 4) (by omega) hs.1 (v := 0) (by decide) (by decide)) ?_⟩
  rintro o h1 ⟨rfl, d1, F1⟩
  exact r6 h1 (hs.tmp F1 d1) d1 F1.toM
