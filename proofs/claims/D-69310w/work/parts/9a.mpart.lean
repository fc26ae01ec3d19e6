/-! the model: forms are parted into classes -/
abbrev iPa (k : Nat) : Prop := k = 7
abbrev sPa (c : Nat) : Prop := c = 1415 ∨ c = 1416
/-- FormHouseModel.part()V; cuts at [7, 15, 27, 37, 55, 57, 67, 76, 80, 85, 94, 104] -/
def cl_198_2 : List mj_E := (80, true, .aload_n 0, 1, 0, 0, 0, 0, 0) ::
  (81, false, .invokevirtual 175, 3, 201, 0, 17, 0, 0) ::
  (84, false, .istore_n 2, 1, 0, 0, 0, 0, 0) ::
  (85, true, .aload_n 0, 1, 0, 0, 0, 0, 0) ::
  (86, false, .getfield 28, 3, 17, 6, 2, 0, 0) ::
  (89, false, .iload_n 2, 1, 0, 0, 0, 0, 0) ::
  (90, false, .iaload, 1, 0, 0, 0, 0, 0) ::
  (91, false, .ifCond .lt (-34), 3, 35, 0, 0, 0, 0) ::
  (94, true, .aload_n 0, 1, 0, 0, 0, 0, 0) ::
  (95, false, .dup, 1, 0, 0, 0, 0, 0) ::
  (96, false, .getfield 169, 3, 17, 7, 0, 0, 0) ::
  (99, false, .iconst 1, 1, 0, 0, 0, jI 1, 0) ::
  (100, false, .iadd, 1, 0, 0, 0, 0, 0) ::
  (101, false, .putfield 169, 3, 17, 7, 0, 0, 0) ::
  (104, true, .iinc 1 1, 3, 0, 0, 0, jI 1, 0) ::
  (107, false, .goto (-100), 3, 5, 0, 0, 0, 0) ::
  (110, false, .return_, 1, 0, 0, 0, 0, 0) ::
  []
def cl_198_1 : List mj_E := (42, false, .iload_n 1, 1, 0, 0, 0, 0, 0) ::
  (43, false, .iaload, 1, 0, 0, 0, 0, 0) ::
  (44, false, .i2l, 1, 0, 0, 0, 0, 0) ::
  (45, false, .aload_n 0, 1, 0, 0, 0, 0, 0) ::
  (46, false, .getfield 25, 3, 17, 5, 2, 0, 0) ::
  (49, false, .iload_n 1, 1, 0, 0, 0, 0, 0) ::
  (50, false, .iaload, 1, 0, 0, 0, 0, 0) ::
  (51, false, .i2l, 1, 0, 0, 0, 0, 0) ::
  (52, false, .invokevirtual 150, 3, 194, 2, 17, 0, 0) ::
  (55, true, .iload_n 1, 1, 0, 0, 0, 0, 0) ::
  (56, false, .istore_n 2, 1, 0, 0, 0, 0, 0) ::
  (57, true, .aload_n 0, 1, 0, 0, 0, 0, 0) ::
  (58, false, .getfield 28, 3, 17, 6, 2, 0, 0) ::
  (61, false, .iload_n 2, 1, 0, 0, 0, 0, 0) ::
  (62, false, .aload_n 0, 1, 0, 0, 0, 0, 0) ::
  (63, false, .getfield 169, 3, 17, 7, 0, 0, 0) ::
  (66, false, .iastore, 1, 0, 0, 0, 0, 0) ::
  (67, true, .aload_n 0, 1, 0, 0, 0, 0, 0) ::
  (68, false, .getfield 9, 3, 17, 1, 1, 0, 0) ::
  (71, false, .lconst 0, 1, 0, 0, 0, 0, jL 0) ::
  (72, false, .lcmp, 1, 0, 0, 0, 0, 0) ::
  (73, false, .ifCond .le 7, 3, 48, 0, 0, 0, 0) ::
  (76, true, .aload_n 0, 1, 0, 0, 0, 0, 0) ::
  (77, false, .invokevirtual 172, 3, 199, 0, 17, 0, 0) ::
  cl_198_2
def cl_198_0 : List mj_E := (0, false, .aload_n 0, 1, 0, 0, 0, 0, 0) ::
  (1, false, .iconst 0, 1, 0, 0, 0, jI 0, 0) ::
  (2, false, .putfield 169, 3, 17, 7, 0, 0, 0) ::
  (5, false, .iconst 0, 1, 0, 0, 0, jI 0, 0) ::
  (6, false, .istore_n 1, 1, 0, 0, 0, 0, 0) ::
  (7, true, .iload_n 1, 1, 0, 0, 0, 0, 0) ::
  (8, false, .aload_n 0, 1, 0, 0, 0, 0, 0) ::
  (9, false, .getfield 154, 3, 17, 3, 0, 0, 0) ::
  (12, false, .if_icmp .ge 98, 3, 64, 0, 0, 0, 0) ::
  (15, true, .aload_n 0, 1, 0, 0, 0, 0, 0) ::
  (16, false, .getfield 28, 3, 17, 6, 2, 0, 0) ::
  (19, false, .iload_n 1, 1, 0, 0, 0, 0, 0) ::
  (20, false, .iaload, 1, 0, 0, 0, 0, 0) ::
  (21, false, .ifCond .lt 6, 3, 15, 0, 0, 0, 0) ::
  (24, false, .goto 80, 3, 62, 0, 0, 0, 0) ::
  (27, true, .aload_n 0, 1, 0, 0, 0, 0, 0) ::
  (28, false, .getfield 31, 3, 17, 8, 2, 0, 0) ::
  (31, false, .aload_n 0, 1, 0, 0, 0, 0, 0) ::
  (32, false, .getfield 169, 3, 17, 7, 0, 0, 0) ::
  (35, false, .iload_n 1, 1, 0, 0, 0, 0, 0) ::
  (36, false, .iastore, 1, 0, 0, 0, 0, 0) ::
  (37, true, .aload_n 0, 1, 0, 0, 0, 0, 0) ::
  (38, false, .aload_n 0, 1, 0, 0, 0, 0, 0) ::
  (39, false, .getfield 21, 3, 17, 4, 2, 0, 0) ::
  cl_198_1
def cd_198 : List mj_E := cl_198_0
def cx_198 : mj_X := (0, [], [])
theorem tb_198 : mj_tab (mj_mt 198) cx_198 cd_198 mj_mh [(0, 0, 0), (0, 0, 0), (7106, 0, 0), (0, 0, 0), (0, 0, 0), (0, 0, 0), (0, 0, 0), (7102, 0, 0), (0, 0, 0), (0, 0, 0), (7105, 0, 0), (0, 0, 0), (0, 0, 0), (0, 0, 0), (0, 0, 0), (0, 0, 0), (7107, 0, 0), (0, 0, 0), (7106, 0, 0), (0, 0, 0), (0, 0, 0), (0, 0, 0), (0, 0, 0), (7103, 0, 0), (0, 0, 0), (0, 0, 0), (0, 0, 0), (0, 0, 0), (7104, 0, 0), (0, 0, 0), (0, 0, 0), (0, 0, 0), (6225, 0, 0), (0, 0, 0), (0, 0, 0), (0, 0, 0), (7105, 0, 0), (0, 0, 0), (0, 0, 0), (7106, 0, 0), (0, 0, 0), (0, 0, 0), (7100, 0, 0), (0, 0, 0), (0, 0, 0), (0, 0, 0), (0, 0, 0), (7003, 0, 0), (0, 0, 0), (7010, 0, 0), (0, 0, 0), (0, 0, 0), (7105, 0, 0), (0, 0, 0), (0, 0, 0), (0, 0, 0), (0, 0, 0), (0, 0, 0), (7106, 0, 0), (0, 0, 0), (0, 0, 0), (7106, 0, 0), (0, 0, 0), (0, 0, 0), (0, 0, 0)] = true := mj_tab_f (by decide +kernel)
theorem ct_198 (G : mj_G) {h : mj_H} (L : isLam h) {n : Nat} {A : Nat → pI} (hA : isMa h n A) (hS : sst n A) {d w : Int} (hw : isMw h d w) (hd : -1099511627776 < d ∧ d < 1099511627776) (hd0 : d ≠ 0) (hwb : -1 ≤ w ∧ w < 2147483648) {nxt : Nat → Nat} (hx : isNx d w n A nxt) (h15 : ∀ i, i < n → hI h 1415 i = jI (-1)) (hcnt : ∀ k, k ≤ n → (clSt nxt n k).2.1 ≤ 4096) : mj_Ct G (mj_mt 198) 0 0 [.ref 1412] h (fun o h' => o = .returned none ∧ isMc h' n (clSt nxt n n).1 (clSt nxt n n).2.1 (clSt nxt n n).2.2 ∧ FrM iPa jF sPa h h') := by
  have hn := hA.2.1
  have nat : ∀ {k : Nat}, k < 40960 → (jI (k : Int)).toNatClampNeg = k := by
    intro k hk
    rw [jI_nat (by omega) (by omega), Int.toNat_natCast]
  have hAM : ∀ {h' : mj_H}, FrM iPa jF sPa h h' → isMa h' n A := fun F => hA.M F (by omega) (by omega) (by omega)
  have hWM : ∀ {h' : mj_H}, FrM iPa jF sPa h h' → isMw h' d w := fun F => hw.M F (by omega) (by omega)
  have up : ∀ {h1 h2 : mj_H}, FrM noT jF noT h1 h2 → FrM iPa jF sPa h1 h2 := fun F => F.mono (fun _ z => z.elim) (fun _ z => z) (fun _ z => z.elim)
  refine mj_Ct_of mj_ok tb_198 rfl rfl (Nat.le_of_ble_eq_true rfl) (fun Run hR => ?_)
  have r7 : ∀ (m k : Nat) (kI : Int32) (h' : mj_H) (x2 : Option Value), k + m = n → isMc h' n (clSt nxt n k).1 (clSt nxt n k).2.1 (clSt nxt n k).2.2 → FrM iPa jF sPa h h' → kI = jI k → Run 7 [some (.ref 1412), some (.int kI), x2] [] h' (0, 0) := by
    intro m
    induction m with
    | zero =>
      rintro k kI h' x2 hk hc F rfl
      refine hR 60 5 _ _ _ _ _ _ rfl ?_
      refine ⟨(F.lay L).K 1412 rfl, fun c => ?_, fun c => ?_⟩
      · refine ⟨rfl, ?_, F⟩
        rw [show n = k by omega] at hc ⊢
        exact hc
      · rw [(hAM F).1] at c
        simp (disch := omega) only [mj_lcm, jI_lt, jI_le, jI_eq, jL_lt, jL_le, jL_eq, jI_lt0, jI_0le, jI_0lt, jI_le0, jI_eq0, jL_eq0, jI_L, jI_add, jI_sub, jI_mul, jI_neg, jL_add, jL_sub, jL_mul, jL_neg, jL_I, jI_div, jI_mod, jL_div, jL_mod] at c
        omega
    | succ m ih =>
      rintro k kI h' x2 hk hc F rfl
      have L' := F.lay L
      have hcs := clSt_s nxt n k
      have hrng := clSt_rng (nxt := nxt) (n := n) k (fun j hj => hcnt j (by omega))
      have hct := hcnt (k + 1) (by omega)
      have hct0 := hcnt k (by omega)
      obtain ⟨cl0, hcl0⟩ : ∃ c, c = (clSt nxt n k).1 := ⟨_, rfl⟩
      obtain ⟨ct, hctt⟩ : ∃ c, c = (clSt nxt n k).2.1 := ⟨_, rfl⟩
      obtain ⟨nm, hnm⟩ : ∃ c, c = (clSt nxt n k).2.2 := ⟨_, rfl⟩
      rw [← hcl0] at hcs hrng hc
      rw [← hctt] at hcs hc hct0
      rw [← hnm] at hcs hc
      have r104 : ∀ (h3 : mj_H) (x2 : Option Value), isMc h3 n (clSt nxt n (k + 1)).1 (clSt nxt n (k + 1)).2.1 (clSt nxt n (k + 1)).2.2 → FrM iPa jF sPa h h3 → Run 104 [some (.ref 1412), some (.int (jI k)), x2] [] h3 (0, 0) := by
        intro h3 x2 hc3 F3
        refine hR 60 62 _ _ _ _ _ _ rfl ?_
        exact ih (k + 1) _ h3 _ (by omega) hc3 F3 (by rw [jI_add]; rfl)
      have e15 : hI h' 1415 (jI (k : Int)).toNatClampNeg = jI (cl0 k) := by
        rw [nat (by omega)]
        exact hc.2.1 k (by omega)
      have vk : ∀ {h3 : mj_H} {c : Nat}, hN h3 c = 40960 → vp_in (jI (k : Int)) (hN h3 c) := by
        intro h3 c hc
        rw [hc]
        exact jI_in (by omega) (by omega) (by omega)
      have hk0 := hrng k
      by_cases hneg : cl0 k = -1
      · rw [if_pos hneg] at hcs
        have hct1 : ct < 4096 := by
          rw [hcs] at hct
          have h9 : ct + 1 ≤ 4096 := hct
          omega
        have r94 : ∀ (cl : Nat → Int) (h3 : mj_H) (x2 : Option Value), isMc h3 n cl ct nm → hI h3 1416 ct = jI k → FrM iPa jF sPa h h3 → cl = wkC nxt ct (n + 1) k cl0 → Run 94 [some (.ref 1412), some (.int (jI k)), x2] [] h3 (0, 0) := by
          rintro cl h3 x2 hc3 hnm3 F3 rfl
          have L3 := F3.lay L
          refine hR 60 56 _ _ _ _ _ _ rfl ?_
          refine ⟨L3.K 1412 rfl, L3.K 1412 rfl, ?_⟩
          refine r104 _ _ ?_ (F3.fI rfl _)
          rw [hcs]
          refine ⟨?_, ?_, ?_⟩
          · refine (sI_at _ _ _ _).trans ?_
            rw [hc3.1, jI_add]
            rfl
          · intro i hi
            exact hc3.2.1 i hi
          · intro i hi
            have hi' : i < ct + 1 := hi
            show hI h3 1416 i = jI ((upN nm ct k i : Nat) : Int)
            unfold upN
            by_cases e : i = ct
            · rw [if_pos e, e]
              exact hnm3
            · rw [if_neg e]
              exact hc3.2.2 i (by omega)
        have r57 : ∀ (f at' : Nat) (aI : Int32) (cl : Nat → Int) (h3 : mj_H), umN n cl < f → at' < n → cl at' = -1 → (∀ i, i < n → -1 ≤ cl i ∧ cl i < 32768) → isMc h3 n cl ct nm → hI h3 1416 ct = jI k → isMm h3 (fmP d (A at')) → FrM iPa jF sPa h h3 → wkC nxt ct f at' cl = wkC nxt ct (n + 1) k cl0 → aI = jI at' → Run 57 [some (.ref 1412), some (.int (jI k)), some (.int aI)] [] h3 (0, 0) := by
          intro f
          induction f with
          | zero => intro at' aI cl h3 hu; omega
          | succ f ihf =>
            rintro at' aI cl h3 hu hat hcat hrg hc3 hnm3 hmm F3 he rfl
            have L3 := F3.lay L
            obtain ⟨n1, n2, n3, n4, n5⟩ := hx at' hat
            have hum := umN_up (n := n) (cls := cl) (c := (ct : Int)) hat hcat (by omega)
            have he2 : wkC nxt ct f (nxt at') (upN cl at' ct) = wkC nxt ct (n + 1) k cl0 := by
              rw [← he]
              show _ = if cl at' = -1 then wkC nxt ct f (nxt at') (upN cl at' ct) else cl
              rw [if_pos hcat]
            have hrg2 : ∀ i, i < n → -1 ≤ upN cl at' ct i ∧ upN cl at' ct i < 32768 := by
              intro i hi
              unfold upN
              split
              · omega
              · exact hrg i hi
            have r85 : ∀ (h4 : mj_H), isMc h4 n (upN cl at' ct) ct nm → hI h4 1416 ct = jI k → isMm h4 (fmP d (A (nxt at'))) → FrM iPa jF sPa h h4 → Run 85 [some (.ref 1412), some (.int (jI k)), some (.int (jI (nxt at')))] [] h4 (0, 0) := by
              intro h4 hc4 hnm4 hm4 F4
              have L4 := F4.lay L
              have v4 : vp_in (jI (nxt at' : Int)) (hN h4 1415) := by
                rw [show hN h4 1415 = 40960 from L4.N 1414 rfl]
                exact jI_in (by omega) (by omega) (by omega)
              have e4 : hI h4 1415 (jI (nxt at' : Int)).toNatClampNeg = jI (upN cl at' ct (nxt at')) := by
                rw [nat (by omega)]
                exact hc4.2.1 _ n1
              have hr4 := hrg2 (nxt at') n1
              refine hR 60 51 _ _ _ _ _ _ rfl ?_
              refine ⟨L4.K 1412 rfl, _, L4.R 1412 6 _ rfl, Or.inl (L4.K 1415 rfl), v4, fun c => ?_, fun c => ?_⟩
              · rw [e4, jI_lt0 (by omega) (by omega)] at c
                exact ihf (nxt at') _ (upN cl at' ct) h4 (by omega) n1 (by omega) hrg2 hc4 hnm4 hm4 F4 he2 rfl
              · rw [e4, jI_lt0 (by omega) (by omega)] at c
                refine r94 (upN cl at' ct) h4 _ hc4 hnm4 F4 ?_
                rw [← he2]
                cases f with
                | zero => omega
                | succ f =>
                  show _ = if upN cl at' ct (nxt at') = -1 then wkC nxt ct f (nxt (nxt at')) (upN (upN cl at' ct) (nxt at') ct) else upN cl at' ct
                  rw [if_neg (by omega)]
            have r80 : ∀ (h4 : mj_H) (x2 : Int32), isMc h4 n (upN cl at' ct) ct nm → hI h4 1416 ct = jI k → isMm h4 (fmP d (A (nxt at'))) → FrM iPa jF sPa h h4 → Run 80 [some (.ref 1412), some (.int (jI k)), some (.int x2)] [] h4 (0, 0) := by
              intro h4 x2 hc4 hnm4 hm4 F4
              have L4 := F4.lay L
              refine hR 60 48 _ _ _ _ _ _ rfl ?_
              refine ⟨L4.K 1412 rfl, jcall (ct_201 G L4 (hAM F4) hS hm4 n1 ⟨rfl, rfl⟩) ?_⟩
              exact r85 h4 hc4 hnm4 hm4 F4
            have r67 : ∀ (h4 : mj_H), isMc h4 n (upN cl at' ct) ct nm → hI h4 1416 ct = jI k → isMm h4 (fmP d (A at')) → FrM iPa jF sPa h h4 → Run 67 [some (.ref 1412), some (.int (jI k)), some (.int (jI at'))] [] h4 (0, 0) := by
              intro h4 hc4 hnm4 hm4 F4
              have L4 := F4.lay L
              have w1 := (hWM F4).1
              have r76 : 0 < d → Run 76 [some (.ref 1412), some (.int (jI k)), some (.int (jI at'))] [] h4 (0, 0) := by
                intro hpos
                refine hR 60 46 _ _ _ _ _ _ rfl ?_
                refine ⟨L4.K 1412 rfl, jcallP (ct_199 G L4 (hWM F4) hd hwb hm4 n3) ?_⟩
                rintro o h5 ⟨rfl, m5, -, F5⟩
                rw [n4 hpos] at m5
                exact r80 h5 _ (hc4.M F5 (fun z => z) (fun z => z) (fun z => z)) ((F5.I (by decide) (fun z => z) _).trans hnm4) m5 (F4.trans (up F5))
              refine hR 60 41 _ _ _ _ _ _ rfl ?_
              refine ⟨L4.K 1412 rfl, fun c => ?_, fun c => ?_⟩
              · simp only [mj_lcm, w1] at c
                simp (disch := omega) only [mj_lcm, jI_lt, jI_le, jI_eq, jL_lt, jL_le, jL_eq, jI_lt0, jI_0le, jI_0lt, jI_le0, jI_eq0, jL_eq0, jI_L, jI_add, jI_sub, jI_mul, jI_neg, jL_add, jL_sub, jL_mul, jL_neg, jL_I, jI_div, jI_mod, jL_div, jL_mod] at c
                refine r80 h4 _ hc4 hnm4 ?_ F4
                rw [n5 (by omega)]
                exact hm4
              · simp only [mj_lcm, w1] at c
                simp (disch := omega) only [mj_lcm, jI_lt, jI_le, jI_eq, jL_lt, jL_le, jL_eq, jI_lt0, jI_0le, jI_0lt, jI_le0, jI_eq0, jL_eq0, jI_L, jI_add, jI_sub, jI_mul, jI_neg, jL_add, jL_sub, jL_mul, jL_neg, jL_I, jI_div, jI_mod, jL_div, jL_mod] at c
                exact r76 (by omega)
            have va : vp_in (jI (at' : Int)) (hN h3 1415) := by
              rw [show hN h3 1415 = 40960 from L3.N 1414 rfl]
              exact jI_in (by omega) (by omega) (by omega)
            refine hR 60 35 _ _ _ _ _ _ rfl ?_
            refine ⟨L3.K 1412 rfl, _, L3.R 1412 6 _ rfl, L3.K 1412 rfl, L3.K 1415 rfl, va, ?_⟩
            rw [nat (by omega), hc3.1]
            refine r67 _ ⟨hc3.1, fun i hi => ?_, fun i hi => hc3.2.2 i hi⟩ hnm3 ⟨hmm.1, hmm.2.1, hmm.2.2⟩ (F3.aI (c := 1415) (by omega) (by decide) _ _)
            unfold upN
            by_cases e : i = at'
            · rw [if_pos e, e]
              exact sI_at _ _ _ _
            · rw [if_neg e]
              exact (sI_k _ _ e _).trans (hc3.2.1 i hi)
        have r55 : ∀ (h3 : mj_H) (x2 : Option Value), isMc h3 n cl0 ct nm → hI h3 1416 ct = jI k → isMm h3 (fmP d (A k)) → FrM iPa jF sPa h h3 → Run 55 [some (.ref 1412), some (.int (jI k)), x2] [] h3 (0, 0) := by
          intro h3 x2 hc3 hnm3 hm3 F3
          refine hR 60 33 _ _ _ _ _ _ rfl ?_
          exact r57 (n + 1) k _ cl0 h3 (by have := umN_le cl0 n; omega) (by omega) hneg (fun i _ => hrng i) hc3 hnm3 hm3 F3 rfl rfl
        have r37 : ∀ (h3 : mj_H) (x2 : Option Value), isMc h3 n cl0 ct nm → hI h3 1416 ct = jI k → FrM iPa jF sPa h h3 → Run 37 [some (.ref 1412), some (.int (jI k)), x2] [] h3 (0, 0) := by
          intro h3 x2 hc3 hnm3 F3
          have L3 := F3.lay L
          obtain ⟨b1, b2, b3, b4⟩ := (hAM F3).2.2 k (by omega)
          have e1 : (hI h3 1413 (jI (k : Int)).toNatClampNeg).toInt64 = jL (A k).1 := by rw [nat (by omega), b1, jI_L (by omega) (by omega)]
          have e2 : (hI h3 1414 (jI (k : Int)).toNatClampNeg).toInt64 = jL (A k).2 := by rw [nat (by omega), b2, jI_L (by omega) (by omega)]
          have c194 := ct_194 G L3 (hWM F3) hd (x := (A k).1) (y := (A k).2) (hx k (by omega)).2.1 (by omega) (by omega)
          rw [← e1, ← e2] at c194
          refine hR 60 21 _ _ _ _ _ _ rfl ?_
          refine ⟨L3.K 1412 rfl, _, L3.R 1412 4 _ rfl, Or.inl (L3.K 1413 rfl), vk (L3.N 1412 rfl), L3.K 1412 rfl, _, L3.R 1412 5 _ rfl, Or.inl (L3.K 1414 rfl), vk (L3.N 1413 rfl), L3.K 1412 rfl, jcallP c194 ?_⟩
          rintro o h4 ⟨rfl, m4, F4⟩
          have F4' : FrM noT jF noT h3 h4 := F4.mono (fun _ z => z) (fun _ z => by omega) (fun _ z => z)
          exact r55 h4 _ (hc3.M F4 (fun z => z) (fun z => z) (fun z => z)) ((F4.I (by decide) (fun z => z) _).trans hnm3) m4 (F3.trans (up F4'))
        have r27 : Run 27 [some (.ref 1412), some (.int (jI k)), x2] [] h' (0, 0) := by
          have v7 : vp_in (hI h' 1412 7) (hN h' 1416) := by
            rw [hc.1, show hN h' 1416 = 4096 from L'.N 1415 rfl]
            exact jI_in (by omega) (by omega) (by omega)
          have n7 : (hI h' 1412 7).toNatClampNeg = ct := by rw [hc.1, nat (by omega)]
          refine hR 60 15 _ _ _ _ _ _ rfl ?_
          refine ⟨L'.K 1412 rfl, _, L'.R 1412 8 _ rfl, L'.K 1412 rfl, L'.K 1416 rfl, v7, ?_⟩
          rw [n7]
          refine r37 _ _ ⟨hc.1, fun i hi => hc.2.1 i hi, fun i hi => ?_⟩ (sI_at _ _ _ _) (F.aI (c := 1416) (by omega) (by decide) _ _)
          exact (sI_k _ _ (by omega) _).trans (hc.2.2 i hi)
        have r15 : Run 15 [some (.ref 1412), some (.int (jI k)), x2] [] h' (0, 0) := by
          refine hR 60 9 _ _ _ _ _ _ rfl ?_
          refine ⟨L'.K 1412 rfl, _, L'.R 1412 6 _ rfl, Or.inl (L'.K 1415 rfl), vk (L'.N 1414 rfl), fun c => r27, fun c => ?_⟩
          rw [e15, jI_lt0 (by omega) (by omega)] at c
          omega
        refine hR 60 5 _ _ _ _ _ _ rfl ?_
        refine ⟨L'.K 1412 rfl, fun c => ?_, fun c => r15⟩
        rw [(hAM F).1] at c
        simp (disch := omega) only [mj_lcm, jI_lt, jI_le, jI_eq, jL_lt, jL_le, jL_eq, jI_lt0, jI_0le, jI_0lt, jI_le0, jI_eq0, jL_eq0, jI_L, jI_add, jI_sub, jI_mul, jI_neg, jL_add, jL_sub, jL_mul, jL_neg, jL_I, jI_div, jI_mod, jL_div, jL_mod] at c
        omega
      · rw [if_neg hneg] at hcs
        have r15 : Run 15 [some (.ref 1412), some (.int (jI k)), x2] [] h' (0, 0) := by
          refine hR 60 9 _ _ _ _ _ _ rfl ?_
          refine ⟨L'.K 1412 rfl, _, L'.R 1412 6 _ rfl, Or.inl (L'.K 1415 rfl), vk (L'.N 1414 rfl), fun c => ?_, fun c => ?_⟩
          · rw [e15, jI_lt0 (by omega) (by omega)] at c
            omega
          · refine r104 h' _ ?_ F
            rw [hcs, ← hcl0, ← hctt, ← hnm]
            exact hc
        refine hR 60 5 _ _ _ _ _ _ rfl ?_
        refine ⟨L'.K 1412 rfl, fun c => ?_, fun c => r15⟩
        rw [(hAM F).1] at c
        simp (disch := omega) only [mj_lcm, jI_lt, jI_le, jI_eq, jL_lt, jL_le, jL_eq, jI_lt0, jI_0le, jI_0lt, jI_le0, jI_eq0, jL_eq0, jI_L, jI_add, jI_sub, jI_mul, jI_neg, jL_add, jL_sub, jL_mul, jL_neg, jL_I, jI_div, jI_mod, jL_div, jL_mod] at c
        omega
  refine hR 60 0 _ _ _ _ _ _ rfl ?_
  refine ⟨L.K 1412 rfl, ?_⟩
  refine r7 n 0 _ _ _ (by omega) ⟨sI_at _ _ _ _, fun i hi => h15 i hi, fun i hi => ?_⟩ ((FrM.refl iPa jF sPa h).fI (k := 7) rfl _) rfl
  have h9 : i < 0 := hi
  omega
