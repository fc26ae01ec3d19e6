/-! going on until a form is reduced -/
abbrev Fm : Type := Int × Int × Int
def nx (d w : Int) (f : Fm) : Fm := (f.2.2, nbE d w f.2.1 f.2.2, ncE d w f.2.1 f.2.2)
def itF (d w : Int) : Nat → Fm → Fm
  | 0, f => f
  | n + 1, f => itF d w n (nx d w f)
/-- the numbers are small enough -/
def okF (f : Fm) : Prop := (-2305843009213693952 < f.1 ∧ f.1 < 2305843009213693952) ∧ (-2305843009213693952 < f.2.1 ∧ f.2.1 < 2305843009213693952) ∧ (-2147483648 < f.2.2 ∧ f.2.2 < 2147483648) ∧ f.2.2 ≠ 0
def rdF (d w : Int) (f : Fm) : Bool := rdB d w f.1 f.2.1 f.2.2
/-- a form comes to a reduced one, in n steps, all numbers small -/
def trm (d w : Int) : Nat → Fm → Prop
  | 0, f => okF f ∧ rdF d w f = true
  | n + 1, f => (okF f ∧ rdF d w f = false) ∧ trm d w n (nx d w f)
def sFm (h : mj_H) (f : Nat) (g : Fm) : mj_H := sF h f (jL g.1) (jL g.2.1) (jL g.2.2)
def isFm (h : mj_H) (f : Nat) (g : Fm) : Prop := isF h f g.1 g.2.1 g.2.2
theorem isFm_sFm (h : mj_H) {f : Nat} (hk : hK h f = 16) (g : Fm) : isFm (sFm h f g) f g := isF_sF h hk _ _ _
theorem sFm_sFm (h : mj_H) (f : Nat) (g g' : Fm) : sFm (sFm h f g) f g' = sFm h f g' := sF_sF _ _ _ _ _ _ _ _
theorem isRr_sFm {h : mj_H} {r f : Nat} {d w : Int} {g : Fm} (hne : r ≠ f) (hr : isRr h r d w) : isRr (sFm h f g) r d w := ⟨hr.1, by unfold sFm; rw [sF_o h hne]; exact hr.2.1, by unfold sFm; rw [sF_o h hne]; exact hr.2.2⟩
theorem ct_66' (G : mj_G) {h : mj_H} {r f : Nat} {d w : Int} {g : Fm} (hr : isRr h r d w) (hf : isFm h f g) (hd : -1099511627776 < d ∧ d < 1099511627776) (hw : -1 ≤ w ∧ w < 2147483648) (ho : okF g) : mj_Ct G (mj_mt 66) 0 0 [.ref r, .ref f] h (jR (.int (jI (if rdF d w g then 1 else 0))) h) := by
  obtain ⟨o1, o2, o3, o4⟩ := ho
  exact ct_66 G hr hf hd hw o1 o2 (by omega)
theorem ct_27' (G : mj_G) {h : mj_H} {r f : Nat} {d w : Int} {g : Fm} (hr : isRr h r d w) (hf : isFm h f g) (hd : -1099511627776 < d ∧ d < 1099511627776) (hw : -1 ≤ w ∧ w < 2147483648) (ho : okF g) : mj_Ct G (mj_mt 27) 0 0 [.ref r, .ref f] h (jW (.long (jL (nkE d w g.2.1 g.2.2))) (sFm h f (nx d w g))) := by
  obtain ⟨o1, o2, o3, o4⟩ := ho
  exact ct_27 G hr hf hd hw o2 o3 o4
/-- FormHouse$Reducer.reduce(LFormHouse$Form;)I; cuts at [2] -/
def cd_76 : List mj_E := [(0, false, .iconst 0, 1, 0, 0, 0, jI 0, 0),
  (1, false, .istore_n 2, 1, 0, 0, 0, 0, 0),
  (2, true, .aload_n 0, 1, 0, 0, 0, 0, 0),
  (3, false, .aload_n 1, 1, 0, 0, 0, 0, 0),
  (4, false, .invokevirtual 47, 3, 66, 1, 3, 0, 0),
  (7, false, .ifCond .ne 15, 3, 12, 0, 0, 0, 0),
  (10, false, .aload_n 0, 1, 0, 0, 0, 0, 0),
  (11, false, .aload_n 1, 1, 0, 0, 0, 0, 0),
  (12, false, .invokevirtual 51, 3, 27, 1, 3, 0, 0),
  (15, false, .lstore_n 3, 1, 0, 0, 0, 0, 0),
  (16, false, .iinc 2 1, 3, 0, 0, 0, jI 1, 0),
  (19, false, .goto (-17), 3, 2, 0, 0, 0, 0),
  (22, false, .iload_n 2, 1, 0, 0, 0, 0, 0),
  (23, false, .ireturn, 1, 0, 0, 0, 0, 0)]
def cx_76 : mj_X := (1, [], [])
theorem tb_76 : mj_tab (mj_mt 76) cx_76 cd_76 mj_mh [(0, 0, 0), (0, 0, 0), (0, 0, 0), (0, 0, 0), (4105, 0, 0), (0, 0, 0), (0, 0, 0), (0, 0, 0), (4106, 0, 0), (0, 0, 0), (0, 0, 0), (0, 0, 0), (0, 0, 0), (0, 0, 0)] = true := mj_tab_f (by decide +kernel)
theorem ct_76 (G : mj_G) {h : mj_H} {r f : Nat} {d w : Int} {g : Fm} (hr : isRr h r d w) (hf : isFm h f g) (hne : r ≠ f) (hd : -1099511627776 < d ∧ d < 1099511627776) (hw : -1 ≤ w ∧ w < 2147483648) {n : Nat} (ht : trm d w n g) (hn : n < 2147483648) : mj_Ct G (mj_mt 76) 0 0 [.ref r, .ref f] h (fun o h' => o = .returned (some (.int (jI n))) ∧ h' = sFm h f (itF d w n g)) := by
  refine mj_Ct_of mj_ok tb_76 rfl rfl (Nat.le_of_ble_eq_true rfl) (fun Run hR => ?_)
  have loop : ∀ (m : Nat) (k : Int) (kI : Int32) (g' : Fm) (x3 x4 : Option Value), k + m = n → 0 ≤ k → trm d w m g' → itF d w m g' = itF d w n g → kI = jI k → ∀ h', h' = sFm h f g' → Run 2 [some (.ref r), some (.ref f), some (.int kI), x3, x4] [] h' (0, 0) := by
    intro m
    induction m with
    | zero =>
      rintro k kI g' x3 x4 hk h0 ht hi rfl h' rfl
      refine hR 30 2 _ _ _ _ _ _ rfl ?_
      refine ⟨hr.1, jcall (ct_66' G (isRr_sFm hne hr) (isFm_sFm h hf.1 g') hd hw ht.1) ?_⟩
      rw [ht.2]
      refine ⟨fun c => ?_, fun c => ?_⟩
      · exact absurd c (by decide)
      · refine ⟨?_, ?_⟩
        · rw [show k = (n : Int) by omega]
        · rw [← hi]
          rfl
    | succ m ih =>
      rintro k kI g' x3 x4 hk h0 ht hi rfl h' rfl
      refine hR 30 2 _ _ _ _ _ _ rfl ?_
      refine ⟨hr.1, jcall (ct_66' G (isRr_sFm hne hr) (isFm_sFm h hf.1 g') hd hw ht.1.1) ?_⟩
      rw [ht.1.2]
      refine ⟨fun c => ?_, fun c => ?_⟩
      · refine ⟨hr.1, jcallW (ct_27' G (isRr_sFm hne hr) (isFm_sFm h hf.1 g') hd hw ht.1.1) ?_⟩
        exact ih (k + 1) _ (nx d w g') _ _ (by omega) (by omega) ht.2 hi (jI_add _ _) _ (sFm_sFm _ _ _ _)
      · exact absurd rfl c
  refine hR 30 0 _ _ _ _ _ _ rfl ?_
  refine loop n 0 _ g _ _ (by omega) (by decide) ht rfl rfl h ?_
  obtain ⟨kf, fa, fb, fc⟩ := hf
  unfold sFm sF
  rw [← fa, ← fb, ← fc]
  have e : ∀ (h : mj_H) (a k : Nat), sJ h a k (hJ h a k) = h := by
    intro h a k
    unfold sJ
    have : mj_up h.2.1 a k (hJ h a k) = h.2.1 := by
      funext x y
      by_cases z : x = a ∧ y = k
      · simp [mj_up, z, hJ]
      · simp [mj_up, z]
    rw [this]
  rw [e, e, e]
