/-! contract: rows of roots are joined -/
def isRw (h : mj_H) (c : Nat) (W : List Nat) : Prop := ∀ i x : Nat, W[i]? = some x → hI h c i = jI x
def isOf (h : mj_H) (a b : Nat) (A : List Nat) : Prop := isRt h a b ∧ hI h 73 0 = jI A.length ∧ A.length ≤ 4096 ∧ isRw h a A
abbrev inRt (x : Nat) : Prop := x = 73 ∨ x = 74 ∨ x = 75 ∨ x = 76
abbrev is73 (x : Nat) : Prop := x = 73
theorem isRw.put {h : mj_H} {c : Nat} {W : List Nat} (a : isRw h c W) (x : Nat) : isRw (sI h c W.length (jI x)) c (W ++ [x]) := by
  intro i y hy
  by_cases hi : i = W.length
  · subst hi
    rw [List.getElem?_append_right (Nat.le_refl _), Nat.sub_self] at hy
    have h9 : some x = some y := hy
    rw [← Option.some.inj h9]
    exact sI_at _ _ _ _
  · have hlt := lt_of_some hy
    simp only [List.length_append, List.length_cons, List.length_nil] at hlt
    rw [List.getElem?_append_left (by omega)] at hy
    exact (sI_k _ _ hi _).trans (a i y hy)
theorem at_mid {α : Type} (pre : List α) (x : α) (post : List α) : (pre ++ x :: post)[pre.length]? = some x := by
  rw [List.getElem?_append_right (Nat.le_refl _), Nat.sub_self]
  rfl
abbrev l155 (M q : Int32) (v : Int64) (n i : Int32) (x7 x8 x9 : Option Value) : mj_Ls := [some (.ref 73), some (.int M), some (.int q), some (.long v), none, some (.int n), some (.int i), x7, x8, x9]
/-- FormHouse$Roots.join(II)V; cuts at [10, 16, 28, 67, 92, 104, 110] -/
def cl_155_3 : List mj_E := (125, false, .iload 5, 2, 0, 0, 0, 0, 0) ::
  (127, false, .putfield 21, 3, 14, 0, 0, 0, 0) ::
  (130, false, .return_, 1, 0, 0, 0, 0, 0) ::
  []
def cl_155_2 : List mj_E := (82, false, .iaload, 1, 0, 0, 0, 0, 0) ::
  (83, false, .i2l, 1, 0, 0, 0, 0, 0) ::
  (84, false, .iload_n 1, 1, 0, 0, 0, 0, 0) ::
  (85, false, .i2l, 1, 0, 0, 0, 0, 0) ::
  (86, false, .lload 8, 2, 0, 0, 0, 0, 0) ::
  (88, false, .lmul, 1, 0, 0, 0, 0, 0) ::
  (89, false, .ladd, 1, 0, 0, 0, 0, 0) ::
  (90, false, .l2i, 1, 0, 0, 0, 0, 0) ::
  (91, false, .iastore, 1, 0, 0, 0, 0, 0) ::
  (92, true, .iinc 7 1, 3, 0, 0, 0, jI 1, 0) ::
  (95, false, .goto (-67), 3, 18, 0, 0, 0, 0) ::
  (98, false, .iinc 6 1, 3, 0, 0, 0, jI 1, 0) ::
  (101, false, .goto (-85), 3, 12, 0, 0, 0, 0) ::
  (104, true, .aload_n 0, 1, 0, 0, 0, 0, 0) ::
  (105, false, .getfield 9, 3, 14, 1, 2, 0, 0) ::
  (108, false, .astore 6, 2, 0, 0, 0, 0, 0) ::
  (110, true, .aload_n 0, 1, 0, 0, 0, 0, 0) ::
  (111, false, .aload_n 0, 1, 0, 0, 0, 0, 0) ::
  (112, false, .getfield 15, 3, 14, 2, 2, 0, 0) ::
  (115, false, .putfield 9, 3, 14, 1, 2, 0, 0) ::
  (118, false, .aload_n 0, 1, 0, 0, 0, 0, 0) ::
  (119, false, .aload 6, 2, 0, 0, 0, 0, 0) ::
  (121, false, .putfield 15, 3, 14, 2, 2, 0, 0) ::
  (124, false, .aload_n 0, 1, 0, 0, 0, 0, 0) ::
  cl_155_3
def cl_155_1 : List mj_E := (41, false, .iload 7, 2, 0, 0, 0, 0, 0) ::
  (43, false, .iaload, 1, 0, 0, 0, 0, 0) ::
  (44, false, .i2l, 1, 0, 0, 0, 0, 0) ::
  (45, false, .aload_n 0, 1, 0, 0, 0, 0, 0) ::
  (46, false, .getfield 9, 3, 14, 1, 2, 0, 0) ::
  (49, false, .iload 6, 2, 0, 0, 0, 0, 0) ::
  (51, false, .iaload, 1, 0, 0, 0, 0, 0) ::
  (52, false, .i2l, 1, 0, 0, 0, 0, 0) ::
  (53, false, .lsub, 1, 0, 0, 0, 0, 0) ::
  (54, false, .iload_n 2, 1, 0, 0, 0, 0, 0) ::
  (55, false, .i2l, 1, 0, 0, 0, 0, 0) ::
  (56, false, .invokestatic 35, 3, 29, 2, 0, 0, 0) ::
  (59, false, .lload_n 3, 1, 0, 0, 0, 0, 0) ::
  (60, false, .iload_n 2, 1, 0, 0, 0, 0, 0) ::
  (61, false, .i2l, 1, 0, 0, 0, 0, 0) ::
  (62, false, .invokestatic 62, 3, 152, 3, 0, 0, 0) ::
  (65, false, .lstore 8, 2, 0, 0, 0, 0, 0) ::
  (67, true, .aload_n 0, 1, 0, 0, 0, 0, 0) ::
  (68, false, .getfield 15, 3, 14, 2, 2, 0, 0) ::
  (71, false, .iload 5, 2, 0, 0, 0, 0, 0) ::
  (73, false, .iinc 5 1, 3, 0, 0, 0, jI 1, 0) ::
  (76, false, .aload_n 0, 1, 0, 0, 0, 0, 0) ::
  (77, false, .getfield 9, 3, 14, 1, 2, 0, 0) ::
  (80, false, .iload 6, 2, 0, 0, 0, 0, 0) ::
  cl_155_2
def cl_155_0 : List mj_E := (0, false, .iload_n 1, 1, 0, 0, 0, 0, 0) ::
  (1, false, .iload_n 2, 1, 0, 0, 0, 0, 0) ::
  (2, false, .irem, 1, 0, 0, 0, 0, 0) ::
  (3, false, .i2l, 1, 0, 0, 0, 0, 0) ::
  (4, false, .iload_n 2, 1, 0, 0, 0, 0, 0) ::
  (5, false, .i2l, 1, 0, 0, 0, 0, 0) ::
  (6, false, .invokestatic 59, 3, 154, 2, 0, 0, 0) ::
  (9, false, .lstore_n 3, 1, 0, 0, 0, 0, 0) ::
  (10, true, .iconst 0, 1, 0, 0, 0, jI 0, 0) ::
  (11, false, .istore 5, 2, 0, 0, 0, 0, 0) ::
  (13, false, .iconst 0, 1, 0, 0, 0, jI 0, 0) ::
  (14, false, .istore 6, 2, 0, 0, 0, 0, 0) ::
  (16, true, .iload 6, 2, 0, 0, 0, 0, 0) ::
  (18, false, .aload_n 0, 1, 0, 0, 0, 0, 0) ::
  (19, false, .getfield 21, 3, 14, 0, 0, 0, 0) ::
  (22, false, .if_icmp .ge 82, 3, 61, 0, 0, 0, 0) ::
  (25, false, .iconst 0, 1, 0, 0, 0, jI 0, 0) ::
  (26, false, .istore 7, 2, 0, 0, 0, 0, 0) ::
  (28, true, .iload 7, 2, 0, 0, 0, 0, 0) ::
  (30, false, .aload_n 0, 1, 0, 0, 0, 0, 0) ::
  (31, false, .getfield 32, 3, 14, 3, 0, 0, 0) ::
  (34, false, .if_icmp .ge 64, 3, 59, 0, 0, 0, 0) ::
  (37, false, .aload_n 0, 1, 0, 0, 0, 0, 0) ::
  (38, false, .getfield 18, 3, 14, 4, 2, 0, 0) ::
  cl_155_1
def cd_155 : List mj_E := cl_155_0
def cx_155 : mj_X := (0, [], [])
theorem tb_155 : mj_tab (mj_mt 155) cx_155 cd_155 mj_mh [(0, 0, 0), (0, 0, 0), (0, 0, 0), (0, 0, 0), (0, 0, 0), (0, 0, 0), (6048, 0, 0), (0, 0, 0), (0, 0, 0), (0, 0, 0), (0, 0, 0), (0, 0, 0), (0, 0, 0), (0, 0, 0), (2172, 0, 0), (0, 0, 0), (0, 0, 0), (0, 0, 0), (0, 0, 0), (0, 0, 0), (2176, 0, 0), (0, 0, 0), (0, 0, 0), (2177, 0, 0), (0, 0, 0), (0, 0, 0), (0, 0, 0), (0, 0, 0), (2173, 0, 0), (0, 0, 0), (0, 0, 0), (0, 0, 0), (0, 0, 0), (0, 0, 0), (0, 0, 0), (6019, 0, 0), (0, 0, 0), (0, 0, 0), (0, 0, 0), (6043, 0, 0), (0, 0, 0), (0, 0, 0), (2175, 0, 0), (0, 0, 0), (0, 0, 0), (0, 0, 0), (2173, 0, 0), (0, 0, 0), (0, 0, 0), (0, 0, 0), (0, 0, 0), (0, 0, 0), (0, 0, 0), (0, 0, 0), (0, 0, 0), (0, 0, 0), (0, 0, 0), (0, 0, 0), (0, 0, 0), (0, 0, 0), (0, 0, 0), (0, 0, 0), (2173, 0, 0), (0, 0, 0), (0, 0, 0), (0, 0, 0), (2175, 0, 0), (2173, 0, 0), (0, 0, 0), (0, 0, 0), (2175, 0, 0), (0, 0, 0), (0, 0, 0), (2172, 0, 0), (0, 0, 0)] = true := mj_tab_f (by decide +kernel)
theorem ct_155 (G : mj_G) {h : mj_H} (L : isLay h) {a b : Nat} {A : List Nat} (ho : isOf h a b A) {mv : Int32} {ls : List Nat} (hl : isLc mv h ls) {M q : Nat} {d : Int} (hM : 0 < M) (hq : 1 < q) (hc : Nat.gcd M q = 1) (hb : M * q ≤ 4000000) (hA : RtQ M (rtD M d) A) (hL : RtQ q (rtD q d) ls) (hn : A.length * ls.length ≤ 4096) : mj_Ct G (mj_mt 155) 0 0 [.ref 73, .int (jI M), .int (jI q)] h (fun o h' => o = .returned none ∧ Fr inRt is73 h h' ∧ ∃ B, isOf h' b a B ∧ B.length = A.length * ls.length ∧ RtQ (M * q) (rtD (M * q) d) B) := by
  obtain ⟨hr, hmany, hAl, hrw⟩ := ho
  obtain ⟨hfew, hll, hlv, -⟩ := hl
  obtain ⟨ra, rb, rl, hab⟩ := hr
  have hMb : M ≤ 4000000 := by
    have := Nat.le_mul_of_pos_right M (show 0 < q by omega)
    omega
  have hqb : q ≤ 4000000 := by
    have := Nat.le_mul_of_pos_left q hM
    omega
  have hml := Nat.mod_lt M (show 0 < q by omega)
  have em : (jI (M : Int) % jI (q : Int)).toInt64 = jL ((M % q : Nat) : Int) := by
    rw [jI_mod (by omega) (by omega) (by omega) (by omega), Int.tmod_eq_emod_of_nonneg (by omega), ← Int.natCast_emod, jI_L (by omega) (by omega)]
  have iQ : (jI (q : Int)).toInt64 = jL (q : Int) := jI_L (by omega) (by omega)
  have iM : (jI (M : Int)).toInt64 = jL (M : Int) := jI_L (by omega) (by omega)
  have c154 := ct_154 G (a := ((M % q : Nat) : Int)) (n := q) (by omega) (by omega) (by rw [Int.gcd_natCast_natCast, ← Nat.gcd_rec, Nat.gcd_comm]; exact hc) h
  rw [← em, ← iQ] at c154
  have hba : b ≠ 73 ∧ b ≠ 76 ∧ b ≠ a ∧ (b = 74 ∨ b = 75) ∧ (a = 74 ∨ a = 75) := by
    rcases hab with ⟨e1, e2⟩ | ⟨e1, e2⟩ <;> omega
  obtain ⟨b73, b76, bna, b7, a7⟩ := hba
  have nat : ∀ {i : Nat}, i < 4096 → (jI (i : Int)).toNatClampNeg = i := by
    intro i hi
    rw [jI_nat (by omega) (by omega), Int.toNat_natCast]
  refine mj_Ct_of mj_ok tb_155 rfl rfl (Nat.le_of_ble_eq_true rfl) (fun Run hR => ?_)
  have main : ∀ (v : Int), 0 ≤ v → v < q → (q : Int) ∣ ((M % q : Nat) : Int) * v - 1 → ∀ (x5 x6 x7 x8 x9 : Option Value), Run 10 [some (.ref 73), some (.int (jI M)), some (.int (jI q)), some (.long (jL v)), none, x5, x6, x7, x8, x9] [] h (0, 0) := by
    intro v v0 v1 hv
    have hflen := jn_len M q v ls A
    have hKa : ∀ {h' : mj_H}, FrI [b] h h' → hK h' a = 1 ∧ hN h' a = 4096 := by
      intro h' F
      have L' := L.fr F.1
      rcases a7 with rfl | rfl
      · exact ⟨L'.K 74 rfl, L'.N 73 rfl⟩
      · exact ⟨L'.K 75 rfl, L'.N 74 rfl⟩
    have hKb : ∀ {h' : mj_H}, FrI [b] h h' → hK h' b = 1 ∧ hN h' b = 4096 := by
      intro h' F
      have L' := L.fr F.1
      rcases b7 with rfl | rfl
      · exact ⟨L'.K 74 rfl, L'.N 73 rfl⟩
      · exact ⟨L'.K 75 rfl, L'.N 74 rfl⟩
    have r104 : ∀ (h' : mj_H) (B : List Nat) (nI : Int32) (x6 x7 x8 x9 : Option Value), FrI [b] h h' → isRw h' b B → B = jnF M q v A ls → nI = jI B.length → Run 104 [some (.ref 73), some (.int (jI M)), some (.int (jI q)), some (.long (jL v)), none, some (.int nI), x6, x7, x8, x9] [] h' (0, 0) := by
      rintro h' B nI x6 x7 x8 x9 F hB hBe rfl
      have E := F.1
      have L' := L.fr E
      have r110 : ∀ (x7 x8 x9 : Option Value), Run 110 [some (.ref 73), some (.int (jI M)), some (.int (jI q)), some (.long (jL v)), none, some (.int (jI B.length)), some (.ref a), x7, x8, x9] [] h' (0, 0) := by
        intro x7 x8 x9
        refine hR 60 64 _ _ _ _ _ _ rfl ?_
        refine ⟨L'.K 73 rfl, _, (fR E _ _).trans rb, L'.K 73 rfl, ?_⟩
        have F0 : Fr inRt is73 h h' := F.to is73 (fun x hx => by
          have : x = b := List.mem_singleton.1 hx
          show x = 73 ∨ x = 74 ∨ x = 75 ∨ x = 76
          omega)
        have F1 : Fr inRt is73 h (sR h' 73 1 (some b)) := F0.sR rfl _ _
        have F2 : Fr inRt is73 h (sR (sR h' 73 1 (some b)) 73 2 (some a)) := F1.sR rfl _ _
        refine ⟨(F1.K 73).trans (L.K 73 rfl), (F2.K 73).trans (L.K 73 rfl), ?_⟩
        refine ⟨rfl, F2.sI (by omega) _ _, B, ⟨⟨?_, ?_, ?_, ?_⟩, sI_at _ _ _ _, ?_, ?_⟩, ?_, ?_⟩
        · exact sR_1 _ _ (by decide) _ _
        · exact sR_at _ _ _ _
        · exact (sR_2 _ _ (by decide) (by decide) _ _).trans ((fR E _ _).trans rl)
        · omega
        · rw [hBe, hflen]
          exact hn
        · intro i x hx
          exact (congrFun (sI_a _ b73 _ _) _).trans (hB i x hx)
        · rw [hBe, hflen]
        · rw [hBe]
          exact jn_rt hM (by omega) hc hv hA hL
      refine hR 60 61 _ _ _ _ _ _ rfl ?_
      refine ⟨L'.K 73 rfl, _, (fR E _ _).trans ra, ?_⟩
      exact r110 _ _ _
    have r16 : ∀ (post pre : List Nat) (h' : mj_H) (W : List Nat) (nI iI : Int32) (x7 x8 x9 : Option Value), A = pre ++ post → FrI [b] h h' → isRw h' b W → W ++ jnF M q v post ls = jnF M q v A ls → nI = jI W.length → iI = jI pre.length → Run 16 (l155 (jI M) (jI q) (jL v) nI iI x7 x8 x9) [] h' (0, 0) := by
      intro post
      induction post with
      | nil =>
        rintro pre h' W nI iI x7 x8 x9 hA1 F hW hWe rfl rfl
        have E := F.1
        have L' := L.fr E
        have hp : pre.length = A.length := by rw [hA1, List.append_nil]
        have e0 : hI h' 73 0 = jI A.length := (congrFun (F.2 73 (by simp; omega)) 0).trans hmany
        refine hR 60 12 _ _ _ _ _ _ rfl ?_
        refine ⟨L'.K 73 rfl, fun c => ?_, fun c => ?_⟩
        · refine r104 h' W _ _ _ _ _ F hW ?_ rfl
          rw [← hWe]
          exact (List.append_nil W).symm
        · rw [e0] at c
          simp (disch := omega) only [mj_lcm, jI_lt, jI_le, jI_eq, jL_lt, jL_le, jL_eq, jI_lt0, jI_0le, jI_0lt, jI_le0, jI_eq0, jL_eq0, jI_L, jI_add, jI_sub, jI_mul, jI_neg, jL_add, jL_sub, jL_mul, jL_neg, jL_I, jI_div, jI_mod, jL_div, jL_mod] at c
          omega
      | cons x post ih =>
        rintro pre h' W nI iI x7 x8 x9 hA1 F hW hWe rfl rfl
        have hp : pre.length < A.length := by
          rw [hA1, List.length_append, List.length_cons]
          omega
        have hAx : A[pre.length]? = some x := by
          rw [hA1]
          exact at_mid pre x post
        have hxA : x ∈ A := by
          rw [hA1]
          exact List.mem_append_right _ (List.mem_cons_self ..)
        have hxM : x < M := ((hA.2 x).1 hxA).1
        have r28 : ∀ (lp lq : List Nat) (h' : mj_H) (W : List Nat) (nI jJ : Int32) (x8 x9 : Option Value), ls = lq ++ lp → FrI [b] h h' → isRw h' b W → W ++ (lp.map (crt M q v x) ++ jnF M q v post ls) = jnF M q v A ls → nI = jI W.length → jJ = jI lq.length → Run 28 (l155 (jI M) (jI q) (jL v) nI (jI pre.length) (some (.int jJ)) x8 x9) [] h' (0, 0) := by
          intro lp
          induction lp with
          | nil =>
            rintro lq h' W nI jJ x8 x9 hl1 F hW hWe rfl rfl
            have E := F.1
            have L' := L.fr E
            have hp : lq.length = ls.length := by rw [hl1, List.append_nil]
            have e0 : hI h' 73 3 = jI ls.length := (congrFun (F.2 73 (by simp; omega)) 3).trans hfew
            refine hR 60 18 _ _ _ _ _ _ rfl ?_
            refine ⟨L'.K 73 rfl, fun c => ?_, fun c => ?_⟩
            · refine ih (pre ++ [x]) h' W _ _ _ _ _ ?_ F hW ?_ rfl ?_
              · rw [hA1, List.append_assoc]
                rfl
              · rw [← hWe]
                rfl
              · rw [jI_add, List.length_append]
                rfl
            · rw [e0] at c
              simp (disch := omega) only [mj_lcm, jI_lt, jI_le, jI_eq, jL_lt, jL_le, jL_eq, jI_lt0, jI_0le, jI_0lt, jI_le0, jI_eq0, jL_eq0, jI_L, jI_add, jI_sub, jI_mul, jI_neg, jL_add, jL_sub, jL_mul, jL_neg, jL_I, jI_div, jI_mod, jL_div, jL_mod] at c
              omega
          | cons l lp ihl =>
            rintro lq h' W nI jJ x8 x9 hl1 F hW hWe rfl rfl
            have E := F.1
            have L' := L.fr E
            have hp2 : lq.length < ls.length := by
              rw [hl1, List.length_append, List.length_cons]
              omega
            have hlx : ls[lq.length]? = some l := by
              rw [hl1]
              exact at_mid lq l lp
            have hlm : l ∈ ls := by
              rw [hl1]
              exact List.mem_append_right _ (List.mem_cons_self ..)
            have hlq : l < q := ((hL.2 l).1 hlm).1
            obtain ⟨k0, k1, k2, k3⟩ := crt_ok hM (show 0 < q by omega) hv hxM hlq
            have hWl : W.length < 4096 := by
              have h1 := congrArg List.length hWe
              rw [hflen] at h1
              simp only [List.length_append, List.map_cons, List.length_cons] at h1
              omega
            have e0 : hI h' 73 3 = jI ls.length := (congrFun (F.2 73 (by simp; omega)) 3).trans hfew
            have e76 : hI h' 76 (jI (lq.length : Int)).toNatClampNeg = jI l := by
              rw [nat (by omega)]
              exact (congrFun (F.2 76 (by simp; omega)) _).trans (hlv _ _ hlx).1
            have ea : hI h' a (jI (pre.length : Int)).toNatClampNeg = jI x := by
              rw [nat (by omega)]
              exact (congrFun (F.2 a (by simp; omega)) _).trans (hrw _ _ hAx)
            have w0 : 0 ≤ ((l : Int) - x) % q := Int.emod_nonneg _ (by omega)
            have w1 : ((l : Int) - x) % q < q := Int.emod_lt_of_pos _ (by omega)
            have t0 : 0 ≤ ((l : Int) - x) % q * v % q := Int.emod_nonneg _ (by omega)
            have t1 : ((l : Int) - x) % q * v % q < q := Int.emod_lt_of_pos _ (by omega)
            have c29 := ct_29 G (x := (l : Int) - x) (y := q) (by omega) (by omega) (by omega) (by omega) h'
            rw [← jL_sub, ← iQ, ← jI_L (a := (l : Int)) (by omega) (by omega), ← jI_L (a := (x : Int)) (by omega) (by omega), ← e76, ← ea] at c29
            have wv : ((l : Int) - x) % q * v ≤ 4000000 * 4000000 := Int.mul_le_mul (by omega) (by omega) v0 (by decide)
            have wv0 : 0 ≤ ((l : Int) - x) % q * v := Int.mul_nonneg w0 v0
            have c152 := ct_152 G (a := ((l : Int) - x) % q) (b := v) (n := q) wv0 (by omega) (by omega) (by omega) h'
            rw [← iQ] at c152
            have r92 : ∀ (h3 : mj_H) (W' : List Nat) (nI : Int32) (x8 x9 : Option Value), FrI [b] h h3 → isRw h3 b W' → W' ++ (lp.map (crt M q v x) ++ jnF M q v post ls) = jnF M q v A ls → nI = jI W'.length → Run 92 (l155 (jI M) (jI q) (jL v) nI (jI pre.length) (some (.int (jI lq.length))) x8 x9) [] h3 (0, 0) := by
              rintro h3 W' nI x8 x9 F3 hW3 hWe3 e
              refine hR 60 57 _ _ _ _ _ _ rfl ?_
              refine ihl (lq ++ [l]) h3 W' _ _ _ _ ?_ F3 hW3 hWe3 e ?_
              · rw [hl1, List.append_assoc]
                rfl
              · rw [jI_add, List.length_append]
                rfl
            have ev : ((hI h' a (jI (pre.length : Int)).toNatClampNeg).toInt64 + (jI (M : Int)).toInt64 * jL (((l : Int) - x) % q * v % q)).toInt32 = jI (crt M q v x l) := by
              rw [ea, iM, jI_L (by omega) (by omega), jL_mul, jL_add, jL_I, k0]
            have r67 : Run 67 (l155 (jI M) (jI q) (jL v) (jI W.length) (jI pre.length) (some (.int (jI lq.length))) (some (.long (jL (((l : Int) - x) % q * v % q)))) none) [] h' (0, 0) := by
              refine hR 60 41 _ _ _ _ _ _ rfl ?_
              refine ⟨L'.K 73 rfl, _, (fR E _ _).trans rb, L'.K 73 rfl, _, (fR E _ _).trans ra, Or.inl (hKa F).1, ?_, (hKb F).1, ?_, ?_⟩
              · rw [(hKa F).2]
                exact jI_in (by omega) (by omega) (by omega)
              · rw [(hKb F).2]
                exact jI_in (by omega) (by omega) (by omega)
              · rw [nat (i := W.length) hWl, ev]
                refine r92 _ (W ++ [crt M q v x l]) _ _ _ (F.sI (by simp) _ _) (hW.put _) ?_ ?_
                · rw [← hWe, List.append_assoc]
                  rfl
                · rw [jI_add, List.length_append]
                  rfl
            refine hR 60 18 _ _ _ _ _ _ rfl ?_
            refine ⟨L'.K 73 rfl, fun c => ?_, fun c => ?_⟩
            · rw [e0] at c
              simp (disch := omega) only [mj_lcm, jI_lt, jI_le, jI_eq, jL_lt, jL_le, jL_eq, jI_lt0, jI_0le, jI_0lt, jI_le0, jI_eq0, jL_eq0, jI_L, jI_add, jI_sub, jI_mul, jI_neg, jL_add, jL_sub, jL_mul, jL_neg, jL_I, jI_div, jI_mod, jL_div, jL_mod] at c
              omega
            · refine ⟨L'.K 73 rfl, _, (fR E _ _).trans rl, Or.inl (L'.K 76 rfl), ?_, L'.K 73 rfl, _, (fR E _ _).trans ra, Or.inl (hKa F).1, ?_, jcall c29 ?_⟩
              · rw [show hN h' 76 = 4096 from L'.N 75 rfl]
                exact jI_in (by omega) (by omega) (by omega)
              · rw [(hKa F).2]
                exact jI_in (by omega) (by omega) (by omega)
              · refine jcall c152 ?_
                exact r67
        have E := F.1
        have L' := L.fr E
        have e0 : hI h' 73 0 = jI A.length := (congrFun (F.2 73 (by simp; omega)) 0).trans hmany
        refine hR 60 12 _ _ _ _ _ _ rfl ?_
        refine ⟨L'.K 73 rfl, fun c => ?_, fun c => ?_⟩
        · rw [e0] at c
          simp (disch := omega) only [mj_lcm, jI_lt, jI_le, jI_eq, jL_lt, jL_le, jL_eq, jI_lt0, jI_0le, jI_0lt, jI_le0, jI_eq0, jL_eq0, jI_L, jI_add, jI_sub, jI_mul, jI_neg, jL_add, jL_sub, jL_mul, jL_neg, jL_I, jI_div, jI_mod, jL_div, jL_mod] at c
          omega
        · exact r28 ls [] h' W _ _ _ _ rfl F hW hWe rfl rfl
    intro x5 x6 x7 x8 x9
    refine hR 60 8 _ _ _ _ _ _ rfl ?_
    exact r16 A [] h [] _ _ _ _ _ rfl (FrI.refl _ _) (fun i x hx => by cases hx) rfl rfl rfl
  refine hR 60 0 _ _ _ _ _ _ rfl ?_
  refine ⟨?_, jcallP c154 ?_⟩
  · simp (disch := omega) only [mj_lcm, jI_lt, jI_le, jI_eq, jL_lt, jL_le, jL_eq, jI_lt0, jI_0le, jI_0lt, jI_le0, jI_eq0, jL_eq0, jI_L, jI_add, jI_sub, jI_mul, jI_neg, jL_add, jL_sub, jL_mul, jL_neg, jL_I, jI_div, jI_mod, jL_div, jL_mod]
    omega
  · rintro o h3 ⟨e3, v, rfl, v0, v1, v2⟩
    have e3' := e3.symm
    subst e3'
    exact main v v0 v1 v2 _ _ _ _ _
