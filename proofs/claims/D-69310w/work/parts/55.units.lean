/-! contracts: matrices that lead, and units -/
def itM (d w : Int) : Nat → Fm → mxI → mxI
  | 0, _, m => m
  | n + 1, g, m => itM d w n (nx d w g) (stM (nkE d w g.2.1 g.2.2) m)
/-- from a form to one on its way, all numbers small -/
def trL (d w : Int) (to : Fm) : Nat → Fm → mxI → Prop
  | 0, g, _ => okF g ∧ g = to
  | n + 1, g, m => okF g ∧ g ≠ to ∧ bdM (nkE d w g.2.1 g.2.2) m ∧ (-9223372036854775808 < nkE d w g.2.1 g.2.2 ∧ nkE d w g.2.1 g.2.2 < 9223372036854775808) ∧ trL d w to n (nx d w g) (stM (nkE d w g.2.1 g.2.2) m)
theorem ok9 {g : Fm} (h : okF g) : -9223372036854775808 ≤ g.1 ∧ g.1 < 9223372036854775808 ∧ -9223372036854775808 ≤ g.2.1 ∧ g.2.1 < 9223372036854775808 ∧ -9223372036854775808 ≤ g.2.2 ∧ g.2.2 < 9223372036854775808 := by
  obtain ⟨h1, h2, h3, -⟩ := h
  omega
theorem trL_to {d w : Int} {to : Fm} : ∀ (n : Nat) (g : Fm) (m : mxI), trL d w to n g m → okF to
  | 0, g, m, h => h.2 ▸ h.1
  | n + 1, g, m, h => trL_to n _ _ h.2.2.2.2
theorem trL_it {d w : Int} {to : Fm} : ∀ (n : Nat) (g : Fm) (m : mxI), trL d w to n g m → itF d w n g = to
  | 0, g, m, h => h.2
  | n + 1, g, m, h => trL_it n _ _ h.2.2.2.2
theorem isM.K {h : mj_H} {M : Nat} {m : mxI} (a : isM h M m) : hK h M = 14 := by
  obtain ⟨_, _, _, _, hM, -⟩ := a
  exact hM.1
theorem isM.g {h : mj_H} {M : Nat} {m : mxI} (a : isM h M m) : 6 < M := by
  obtain ⟨_, _, _, _, hM, -⟩ := a
  exact hM.2.2.2.2.2.2.2.1
/-- FormHouse$Matrix.lead(LFormHouse$Form;LFormHouse$Form;LFormHouse$Reducer;LFormHouse$Reckoner;)I; cuts at [3] -/
def cd_95 : List mj_E := [(0, false, .iconst 0, 1, 0, 0, 0, jI 0, 0),
  (1, false, .istore 5, 2, 0, 0, 0, 0, 0),
  (3, true, .aload_n 1, 1, 0, 0, 0, 0, 0),
  (4, false, .aload_n 2, 1, 0, 0, 0, 0, 0),
  (5, false, .invokevirtual 44, 3, 51, 1, 6, 0, 0),
  (8, false, .ifCond .ne 20, 3, 14, 0, 0, 0, 0),
  (11, false, .aload_n 0, 1, 0, 0, 0, 0, 0),
  (12, false, .aload_n 3, 1, 0, 0, 0, 0, 0),
  (13, false, .aload_n 1, 1, 0, 0, 0, 0, 0),
  (14, false, .invokevirtual 50, 3, 27, 1, 3, 0, 0),
  (17, false, .aload 4, 2, 0, 0, 0, 0, 0),
  (19, false, .invokevirtual 56, 3, 30, 2, 4, 0, 0),
  (22, false, .iinc 5 1, 3, 0, 0, 0, jI 1, 0),
  (25, false, .goto (-22), 3, 2, 0, 0, 0, 0),
  (28, false, .iload 5, 2, 0, 0, 0, 0, 0),
  (30, false, .ireturn, 1, 0, 0, 0, 0, 0)]
def cx_95 : mj_X := (1, [], [])
theorem tb_95 : mj_tab (mj_mt 95) cx_95 cd_95 mj_mh [(0, 0, 0), (0, 0, 0), (0, 0, 0), (0, 0, 0), (4200, 0, 0), (0, 0, 0), (0, 0, 0), (0, 0, 0), (0, 0, 0), (4201, 0, 0), (0, 0, 0), (4202, 0, 0), (0, 0, 0), (0, 0, 0), (0, 0, 0), (0, 0, 0)] = true := mj_tab_f (by decide +kernel)
theorem ct_95 (G : mj_G) {h : mj_H} {M f t r : Nat} {d w : Int} {g to : Fm} {m : mxI} {n : Nat} (hk : isRk h) (hm : isM h M m) (hf : isFm h f g) (hto : isFm h t to) (hr : isRr h r d w) (hne : r ≠ f ∧ t ≠ f ∧ ¬ inS M f ∧ ¬ inS M t ∧ ¬ inS M r ∧ f ≠ 3) (hd : -1099511627776 < d ∧ d < 1099511627776) (hw : -1 ≤ w ∧ w < 2147483648) (ht : trL d w to n g m) (hn : n < 2147483648) : mj_Ct G (mj_mt 95) 0 0 [.ref M, .ref f, .ref t, .ref r, .ref 3] h (fun o h' => o = .returned (some (.int (jI n))) ∧ isM h' M (itM d w n g m) ∧ isFm h' f to ∧ Fr (fun a => a = f ∨ inS M a) (fun a => a = M) h h') := by
  refine mj_Ct_of mj_ok tb_95 rfl rfl (Nat.le_of_ble_eq_true rfl) (fun Run hR => ?_)
  have hokt := ok9 (trL_to n g m ht)
  obtain ⟨n1, n2, n3, n4, n5, n6⟩ := hne
  have mf : M ≠ f := fun e => n3 (Or.inr (Or.inr ⟨by omega, by omega⟩))
  have loop : ∀ (j : Nat) (i : Nat) (iI : Int32) (g' : Fm) (m' : mxI) (h' : mj_H), i + j = n → trL d w to j g' m' → itM d w j g' m' = itM d w n g m → isM h' M m' → isFm h' f g' → Fr (fun a => a = f ∨ inS M a) (fun a => a = M) h h' → iI = jI i → Run 3 [some (.ref M), some (.ref f), some (.ref t), some (.ref r), some (.ref 3), some (.int iI)] [] h' (0, 0) := by
    intro j
    induction j with
    | zero =>
      rintro i iI g' m' h' hij ht' hi hm' hf' F rfl
      have hk' := hk.F F (by have := hm.g; omega)
      have ht2 := hto.F F (by intro z; rcases z with z | z; exact n2 z; exact n4 z)
      refine hR 30 2 _ _ _ _ _ _ rfl ?_
      have c51 := ct_51 G hf' ht2 (ok9 ht'.1) hokt
      rw [if_pos (by have := ht'.2; rw [this]; exact ⟨rfl, rfl, rfl⟩)] at c51
      refine ⟨hf'.1, jcall c51 ?_⟩
      refine ⟨fun c => absurd c (by decide), fun c => ?_⟩
      refine ⟨?_, ?_, ?_, F⟩
      · rw [show i = n by omega]
      · rw [← hi]
        exact hm'
      · rw [← ht'.2]
        exact hf'
    | succ j ih =>
      rintro i iI g' m' h' hij ht' hi hm' hf' F rfl
      have hk' := hk.F F (by have := hm.g; omega)
      have ht2 := hto.F F (by intro z; rcases z with z | z; exact n2 z; exact n4 z)
      have hr2 := hr.F F (by intro z; rcases z with z | z; exact n1 z; exact n5 z)
      refine hR 30 2 _ _ _ _ _ _ rfl ?_
      have c51 := ct_51 G hf' ht2 (ok9 ht'.1) hokt
      rw [if_neg (by
        rintro ⟨q1, q2, q3⟩
        refine ht'.2.1 ?_
        obtain ⟨x, y, z⟩ := g'
        obtain ⟨x', y', z'⟩ := to
        simp only at q1 q2 q3
        rw [q1, q2, q3])] at c51
      refine ⟨hf'.1, jcall c51 ?_⟩
      refine ⟨fun c => ?_, fun c => absurd rfl c⟩
      refine ⟨hr2.1, jcallW (ct_27' G hr2 hf' hd hw ht'.1) ?_⟩
      have F1 : Fr (fun a => a = f) noT h' (sFm h' f (nx d w g')) := (Fr.refl (fun a => a = f) noT h').sFm rfl _
      have hm1 : isM (sFm h' f (nx d w g')) M m' := hm'.F F1 (by rintro x hx rfl; exact n3 (Or.inr (Or.inr hx))) (fun _ _ z => z)
      have hf1 := isFm_sFm h' hf'.1 (nx d w g')
      refine ⟨hm1.K, jcallP (ct_30 G (hk'.F F1 (fun z => z)) hm1 ht'.2.2.1 ht'.2.2.2.1.1 ht'.2.2.2.1.2) ?_⟩
      rintro o h2 ⟨rfl, q1, q2⟩
      have hf2 : isFm h2 f (nx d w g') := hf1.F q2 n3
      have F2 : Fr (fun a => a = f ∨ inS M a) (fun a => a = M) h h2 := (F.trans (F1.mono (fun x z => Or.inl z) (fun x z => z.elim))).trans (q2.mono (fun x z => Or.inr z) (fun x z => z))
      exact ih (i + 1) _ (nx d w g') _ h2 (by omega) ht'.2.2.2.2 hi q1 hf2 F2 (jI_add _ _)
  refine hR 30 0 _ _ _ _ _ _ rfl ?_
  exact loop n 0 _ g m h (by omega) ht rfl hm hf (Fr.refl _ _ _) rfl
