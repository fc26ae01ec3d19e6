/-! reduced forms: a ring holds all that are equivalent -/
def Red (f : Fm) : Prop := f.1 * f.2.2 < 0 ∧ 0 < f.2.1 ∧ f.1 + f.2.2 < f.2.1 ∧ -(f.1 + f.2.2) < f.2.1
def isWd (d w : Int) : Prop := 0 ≤ w ∧ w * w ≤ d ∧ d < (w + 1) * (w + 1)
theorem sq_le {x y : Int} (h0 : 0 ≤ x) (h : x ≤ y) : x * x ≤ y * y := Int.mul_le_mul h h h0 (by omega)
theorem lt_of_sq {x y : Int} (h0 : 0 ≤ y) (h : x * x < y * y) : x < y := by
  rcases Int.lt_or_le x y with g | g
  · exact g
  · have := sq_le h0 g
    omega
theorem le_of_sq {x y : Int} (h0 : 0 ≤ y) (h : x * x ≤ y * y) : x ≤ y := by
  rcases Int.lt_or_le y x with g | g
  · have : y * y < x * x := Int.mul_lt_mul' (by omega) g h0 (by omega)
    omega
  · exact g
theorem pos_of_mul {k x : Int} (hk : 0 < k) (h : 0 < k * x) : 0 < x := by
  rcases Int.lt_or_le 0 x with g | g
  · exact g
  · have := Int.mul_nonpos_of_nonneg_of_nonpos (show 0 ≤ k by omega) g
    omega
theorem neg_of_mul {k x : Int} (hk : 0 < k) (h : k * x < 0) : x < 0 := by
  rcases Int.lt_or_le x 0 with g | g
  · exact g
  · have := Int.mul_nonneg (show 0 ≤ k by omega) g
    omega
theorem lt_of_mul {k x y : Int} (hk : 0 < k) (h : k * x < k * y) : x < y := by
  have : 0 < k * (y - x) := by
    rw [Int.mul_sub]
    omega
  have := pos_of_mul hk this
  omega
theorem rdF_red1 {d w a b c : Int} (hn : nsq d) (hd0 : 0 < d) (hw : isWd d w) (hD : b * b - 4 * a * c = d) (ha : 0 < a) : rdB d w a b c = true ↔ Red (a, b, c) := by
  obtain ⟨w0, w1, w2⟩ := hw
  unfold rdB
  rw [if_pos hd0]
  simp only [decide_eq_true_eq, Red]
  have hA : (a.natAbs : Int) = a := by omega
  rw [hA]
  constructor
  · rintro ⟨h1, h2, h3, h4⟩
    have l1 : b * b ≤ w * w := sq_le (by omega) h2
    have hb := hn b
    have hac : a * c < 0 := by
      have : 4 * (a * c) < 0 := by
        have e : 4 * (a * c) = b * b - d := by rw [← hD]; grind
        omega
      omega
    have hc : c < 0 := neg_of_mul ha hac
    have l2 : (w + 1) * (w + 1) ≤ (2 * a + b) * (2 * a + b) := sq_le (by omega) (by omega)
    have l3 : 0 < (4 * a) * (a + b + c) := by grind
    have l4 := pos_of_mul (show 0 < 4 * a by omega) l3
    refine ⟨hac, h1, ?_, by omega⟩
    rcases Int.lt_or_le b a with g | g
    · have l5 : (2 * a - b) * (2 * a - b) ≤ w * w := sq_le (by omega) h4
      have hn2 := hn (2 * a - b)
      have l6 : (4 * a) * (a - b + c) < 0 := by
        have e : (4 * a) * (a - b + c) = (2 * a - b) * (2 * a - b) - d := by rw [← hD]; grind
        omega
      have := neg_of_mul (show 0 < 4 * a by omega) l6
      omega
    · omega
  · rintro ⟨h1, h2, h3, h4⟩
    have hc : c < 0 := neg_of_mul ha h1
    have l1 : b * b < (w + 1) * (w + 1) := by grind
    have l2 := lt_of_sq (by omega) l1
    refine ⟨h2, by omega, ?_, ?_⟩
    · rcases Int.lt_or_le w (2 * a + b) with g | g
      · exact g
      · exfalso
        have l3 := sq_le (show 0 ≤ 2 * a + b by omega) g
        have l4 : 0 < (4 * a) * (a + b + c) := Int.mul_pos (by omega) (by omega)
        grind
    · rcases Int.lt_or_le w (2 * a - b) with g | g
      · exfalso
        have l3 := sq_le (show 0 ≤ w + 1 by omega) (show w + 1 ≤ 2 * a - b by omega)
        have l4 : (4 * a) * (a - b + c) < 0 := Int.mul_neg_of_pos_of_neg (by omega) (by omega)
        grind
      · exact g
theorem rdF_red {d w : Int} {f : Fm} (hn : nsq d) (hd0 : 0 < d) (hw : isWd d w) (hD : dF f = d) : rdF d w f = true ↔ Red f := by
  obtain ⟨a, b, c⟩ := f
  have ha := nsq_1 hn hD
  simp only [dF] at hD ha
  rcases Int.lt_or_le 0 a with g | g
  · exact rdF_red1 hn hd0 hw hD g
  · have := rdF_red1 (a := -a) (b := b) (c := -c) hn hd0 hw (by grind) (by omega)
    have e1 : rdB d w (-a) b (-c) = rdB d w a b c := by
      unfold rdB
      rw [if_pos hd0, if_pos hd0, Int.natAbs_neg]
    have e2 : Red (-a, b, -c) ↔ Red (a, b, c) := by
      simp only [Red, Int.neg_mul_neg]
      constructor <;> rintro ⟨h1, h2, h3, h4⟩ <;> exact ⟨h1, h2, by omega, by omega⟩
    rw [e1, e2] at this
    exact this
theorem nk_eq {d w b c : Int} (hc : c ≠ 0) : b + nbE d w b c = 2 * c * nkE d w b c := by
  unfold nkE
  have hdv : (2 * (c.natAbs : Int)) ∣ b + nbE d w b c := by
    unfold nbE
    have h := Int.emod_add_mul_ediv (hiE d w c + b) (2 * (c.natAbs : Int))
    exact ⟨(hiE d w c + b) / (2 * c.natAbs), by omega⟩
  have hdv2 : 2 * c ∣ b + nbE d w b c := by
    obtain ⟨m, hm⟩ := hdv
    rcases Int.natAbs_eq c with e | e
    · exact ⟨m, by rw [e]; exact hm⟩
    · refine ⟨-m, ?_⟩
      rw [hm]
      have : (c.natAbs : Int) = -c := by omega
      rw [this]
      grind
  rw [Int.mul_tdiv_cancel' hdv2]
theorem nx_ac {d w : Int} {f : Fm} (hD : dF f = d) (hc : f.2.2 ≠ 0) : nx d w f = acF f 0 (-1) 1 (nkE d w f.2.1 f.2.2) := by
  obtain ⟨a, b, c⟩ := f
  simp only [dF] at hD hc
  have h := nk_eq (d := d) (w := w) (b := b) hc
  simp only [nx, acF, ncE, Prod.mk.injEq]
  generalize nkE d w b c = k at h
  generalize nbE d w b c = e at h
  have he : e = 2 * c * k - b := by omega
  subst he
  refine ⟨by grind, by grind, ?_⟩
  have : (2 * c * k - b) * (2 * c * k - b) - d = (4 * c) * (a * -1 * -1 + b * -1 * k + c * k * k) := by grind
  rw [this, Int.mul_tdiv_cancel_left _ (by omega)]
theorem nx_d {d w : Int} {f : Fm} (hD : dF f = d) (hc : f.2.2 ≠ 0) : dF (nx d w f) = d := by
  rw [nx_ac hD hc, dF_acF _ _ _ _ _ (by omega)]
  exact hD
theorem nx_eqv {d w : Int} {f : Fm} (hD : dF f = d) (hc : f.2.2 ≠ 0) : Eqv f (nx d w f) := ⟨0, -1, 1, _, by omega, nx_ac hD hc⟩
/-- what a reduced form's last number says -/
theorem red_c {d w : Int} {f : Fm} (hn : nsq d) (hd0 : 0 < d) (hw : isWd d w) (hD : dF f = d) (hr : Red f) : 0 < f.2.1 ∧ f.2.1 ≤ w ∧ w < 2 * f.2.2.natAbs + f.2.1 ∧ 2 * (f.2.2.natAbs : Int) - f.2.1 ≤ w := by
  obtain ⟨a, b, c⟩ := f
  have h := (rdF_red (f := (c, b, a)) hn hd0 hw (by simp only [dF] at hD ⊢; grind)).2 (by
    obtain ⟨h1, h2, h3, h4⟩ := hr
    simp only at h1 h2 h3 h4
    exact ⟨by rw [Int.mul_comm]; exact h1, h2, by simp only; omega, by simp only; omega⟩)
  simp only [rdF, rdB] at h
  rw [if_pos hd0] at h
  exact of_decide_eq_true h
theorem nb_red {d w : Int} {f : Fm} (hn : nsq d) (hd0 : 0 < d) (hw : isWd d w) (hD : dF f = d) (hr : Red f) : 0 < nbE d w f.2.1 f.2.2 ∧ nbE d w f.2.1 f.2.2 ≤ w ∧ w < 2 * f.2.2.natAbs + nbE d w f.2.1 f.2.2 ∧ 2 * (f.2.2.natAbs : Int) - nbE d w f.2.1 f.2.2 ≤ w := by
  have hc := nsq_3 hn hD
  obtain ⟨h1, h2, h3, h4⟩ := red_c hn hd0 hw hD hr
  obtain ⟨a, b, c⟩ := f
  simp only at hc h1 h2 h3 h4 ⊢
  have hi : hiE d w c = w := by
    unfold hiE
    rw [if_neg (by omega)]
  have hin := nbE_in d w b c hc
  rw [hi] at hin
  have hk := nk_eq (d := d) (w := w) (b := b) hc
  generalize nkE d w b c = k at hk
  generalize nbE d w b c = e at hin hk
  obtain ⟨m, hm⟩ : ∃ m : Int, b + e = 2 * (c.natAbs : Int) * m := by
    rcases Int.natAbs_eq c with g | g
    · exact ⟨k, by rw [hk]; congr 2⟩
    · exact ⟨-k, by rw [hk, show (c.natAbs : Int) = -c by omega]; grind⟩
  rcases Int.lt_or_le w (2 * (c.natAbs : Int)) with g | g
  · have hcp : 0 < 2 * (c.natAbs : Int) := by omega
    generalize 2 * (c.natAbs : Int) = N at *
    have m1 : 0 < m := pos_of_mul hcp (by omega)
    have m2 : m < 2 := lt_of_mul hcp (by omega)
    have : m = 1 := by omega
    subst this
    omega
  · omega
theorem nx_red {d w : Int} {f : Fm} (hn : nsq d) (hd0 : 0 < d) (hw : isWd d w) (hD : dF f = d) (hr : Red f) : Red (nx d w f) := by
  have hc := nsq_3 hn hD
  refine (rdF_red hn hd0 hw (nx_d hD hc)).1 ?_
  simp only [rdF, rdB, nx]
  rw [if_pos hd0]
  exact decide_eq_true (nb_red hn hd0 hw hD hr)
theorem itF_add (d w : Int) : ∀ (m n : Nat) (f : Fm), itF d w (m + n) f = itF d w n (itF d w m f)
  | 0, n, f => by rw [Nat.zero_add]; rfl
  | m + 1, n, f => by
    rw [Nat.add_right_comm]
    exact itF_add d w m n (nx d w f)
theorem itF_succ (d w : Int) (n : Nat) (f : Fm) : itF d w (n + 1) f = nx d w (itF d w n f) := itF_add d w n 1 f
theorem itF_red {d w : Int} (hn : nsq d) (hd0 : 0 < d) (hw : isWd d w) : ∀ (n : Nat) (f : Fm), dF f = d → Red f → dF (itF d w n f) = d ∧ Red (itF d w n f)
  | 0, f, hD, hr => ⟨hD, hr⟩
  | n + 1, f, hD, hr => itF_red hn hd0 hw n _ (nx_d hD (nsq_3 hn hD)) (nx_red hn hd0 hw hD hr)
theorem itR_add : ∀ (m n : Nat) (f : Fm), itR (m + n) f = itR n (itR m f)
  | 0, n, f => by rw [Nat.zero_add]; rfl
  | m + 1, n, f => by
    rw [Nat.add_right_comm]
    exact itR_add m n (Rf f)
theorem itR_succ (n : Nat) (f : Fm) : itR (n + 1) f = Rf (itR n f) := itR_add n 1 f
theorem climbU {f : Fm} : ∀ (K : Nat), (∀ j : Nat, 1 ≤ j → j ≤ K → 0 < evF f 1 j) → itR K f = acF f 1 0 K 1
  | 0, _ => (acF_one f).symm
  | K + 1, h => by
    rw [itR_succ, climbU K (fun j h1 h2 => h j h1 (by omega))]
    rw [Rf_u (by
      rw [evF_acF]
      have := h (K + 1) (by omega) (by omega)
      rw [show (1 : Int) * 1 + 0 * 1 = 1 by decide, show (K : Int) * 1 + 1 * 1 = ((K + 1 : Nat) : Int) by omega]
      exact this), acF_acF]
    congr 1
    omega
theorem climbL {f : Fm} : ∀ (K : Nat), (∀ j : Nat, 1 ≤ j → j ≤ K → evF f j 1 < 0) → itR K f = acF f 1 K 0 1
  | 0, _ => (acF_one f).symm
  | K + 1, h => by
    rw [itR_succ, climbL K (fun j h1 h2 => h j h1 (by omega))]
    rw [Rf_l (by
      rw [evF_acF]
      have := h (K + 1) (by omega) (by omega)
      rw [show (0 : Int) * 1 + 1 * 1 = 1 by decide, show (1 : Int) * 1 + K * 1 = ((K + 1 : Nat) : Int) by omega]
      exact this), acF_acF]
    congr 1
    omega
def rho (f : Fm) : Fm := if 0 < f.1 then f else acF f 0 (-1) 1 0
theorem rho_eqv (f : Fm) : Eqv f (rho f) := by
  unfold rho
  by_cases h : 0 < f.1
  · rw [if_pos h]
    exact eqv_refl f
  · rw [if_neg h]
    exact ⟨0, -1, 1, 0, by decide, rfl⟩
theorem rho_val {f : Fm} (h : ¬ 0 < f.1) : rho f = (f.2.2, -f.2.1, f.1) := by
  unfold rho
  rw [if_neg h]
  simp only [acF, Prod.mk.injEq]
  refine ⟨by grind, by grind, by grind⟩
theorem red_sign {f : Fm} (hr : Red f) : (0 < f.1 ∧ f.2.2 < 0) ∨ (f.1 < 0 ∧ 0 < f.2.2) := by
  have h := hr.1
  rcases Int.lt_trichotomy f.1 0 with g | g | g
  · refine Or.inr ⟨g, ?_⟩
    have : (-f.1) * (-f.2.2) < 0 := by rw [Int.neg_mul_neg]; exact h
    have := neg_of_mul (show 0 < -f.1 by omega) this
    omega
  · rw [g, Int.zero_mul] at h
    omega
  · exact Or.inl ⟨g, neg_of_mul g h⟩
theorem rho_rv {f : Fm} (hr : Red f) : rvF (rho f) := by
  rcases red_sign hr with ⟨h1, h2⟩ | ⟨h1, h2⟩
  · unfold rho
    rw [if_pos h1]
    exact ⟨h1, h2⟩
  · rw [rho_val (by omega)]
    exact ⟨h2, h1⟩
theorem rho_ends {f : Fm} (hr : Red f) : (0 < evF (rho f) 1 1 ∧ evF (rho f) 1 (-1) < 0) ∨ (evF (rho f) 1 1 < 0 ∧ 0 < evF (rho f) 1 (-1)) := by
  obtain ⟨r1, r2, r3, r4⟩ := hr
  by_cases h1 : 0 < f.1
  · unfold rho
    rw [if_pos h1]
    simp only [evF]
    omega
  · rw [rho_val h1]
    simp only [evF]
    omega
theorem rho_inj {f g : Fm} (hf : Red f) (hg : Red g) (h : rho f = rho g) : f = g := by
  obtain ⟨a, b, c⟩ := f
  obtain ⟨a', b', c'⟩ := g
  have hb := hf.2.1
  have hb' := hg.2.1
  by_cases h1 : 0 < a
  · by_cases h2 : 0 < a'
    · unfold rho at h
      rw [if_pos h1, if_pos h2] at h
      exact h
    · rw [rho_val (f := (a', b', c')) h2] at h
      unfold rho at h
      rw [if_pos h1] at h
      simp only [Prod.mk.injEq] at h hb hb'
      omega
  · by_cases h2 : 0 < a'
    · rw [rho_val (f := (a, b, c)) h1] at h
      unfold rho at h
      rw [if_pos h2] at h
      simp only [Prod.mk.injEq] at h hb hb'
      omega
    · rw [rho_val (f := (a, b, c)) h1, rho_val (f := (a', b', c')) h2] at h
      simp only [Prod.mk.injEq] at h ⊢
      omega
theorem nsq_ev {f : Fm} {d : Int} (hn : nsq d) (hd : dF f = d) {p q r s : Int} (h : p * s - q * r = 1) : evF f p r ≠ 0 := by
  have := nsq_1 (f := acF f p q r s) hn (by rw [dF_acF _ _ _ _ _ h]; exact hd)
  rw [acF_1] at this
  exact this
/-- the next reduced form is the next one along the river -/
theorem nx_river {d w : Int} {f : Fm} (hn : nsq d) (hd0 : 0 < d) (hw : isWd d w) (hD : dF f = d) (hr : Red f) : ∃ K : Nat, 0 < K ∧ itR K (rho f) = rho (nx d w f) ∧ ∀ j, 0 < j → j < K → ∀ g, Red g → rho g ≠ itR j (rho f) := by
  have hc := nsq_3 hn hD
  have hrn := nx_red hn hd0 hw hD hr
  have hac := nx_ac (w := w) hD hc
  have hk := nk_eq (d := d) (w := w) (b := f.2.1) hc
  have hnb := (nb_red hn hd0 hw hD hr).1
  have hb := hr.2.1
  generalize nkE d w f.2.1 f.2.2 = k at hk hac
  generalize nbE d w f.2.1 f.2.2 = e at hk hnb
  have hsn := red_sign hrn
  rw [hac] at hsn ⊢
  have e1 : (acF f 0 (-1) 1 k).1 = f.2.2 := by
    simp only [acF]
    grind
  rw [e1, acF_3] at hsn
  rcases red_sign hr with ⟨h1, h2⟩ | ⟨h1, h2⟩
  · have hrv : rvF f := ⟨h1, h2⟩
    have hk0 : k < 0 := by
      have : (-(2 * f.2.2)) * k < 0 := by grind
      exact neg_of_mul (by omega) this
    have hlast : 0 < evF f 1 (-k) := by
      have e2 : evF f 1 (-k) = evF f (-1) k := by
        simp only [evF]
        grind
      rw [e2]
      omega
    have hpos : ∀ j : Int, 0 ≤ j → j ≤ -k → 0 < evF f 1 j := by
      intro j j0 j1
      have hne := nsq_ev (p := 1) (q := 0) (r := j) (s := 1) hn hD (by omega)
      rcases Int.lt_or_le (evF f 1 j) 0 with g | g
      · have := cone1 hrv (x := 1) (y := -k) (x' := 1) (y' := j) (by decide) (by omega) (by decide) j0 hlast g
        omega
      · omega
    have er : rho f = f := by
      unfold rho
      rw [if_pos h1]
    have climb : ∀ K : Nat, (K : Int) ≤ -k → itR K f = acF f 1 0 K 1 := fun K hK => climbU K (fun j _ j2 => hpos j (by omega) (by omega))
    refine ⟨(-k).toNat, by omega, ?_, ?_⟩
    · rw [er, climb _ (by omega)]
      have : ((-k).toNat : Int) = -k := by omega
      rw [this]
      unfold rho
      rw [if_neg (by rw [e1]; omega), acF_acF, ← acF_neg f 1 0 (-k) 1]
      congr 1 <;> omega
    · intro j j0 j1 g hg he
      have hends := rho_ends hg
      rw [he, er, climb j (by omega), evF_acF, evF_acF] at hends
      have p1 := hpos (j + 1) (by omega) (by omega)
      have p2 := hpos (j - 1) (by omega) (by omega)
      rw [show (1 : Int) * 1 + 0 * 1 = 1 by decide, show (1 : Int) * 1 + 0 * -1 = 1 by decide, show (j : Int) * 1 + 1 * 1 = j + 1 by omega, show (j : Int) * 1 + 1 * -1 = j - 1 by omega] at hends
      omega
  · have er : rho f = acF f 0 (-1) 1 0 := by
      unfold rho
      rw [if_neg (by omega)]
    have hrv := rho_rv hr
    have hk0 : 0 < k := by
      have : 0 < (2 * f.2.2) * k := by omega
      exact pos_of_mul (by omega) this
    have hlast : evF (rho f) k 1 < 0 := by
      rw [er, evF_acF]
      have e2 : evF f (0 * k + -1 * 1) (1 * k + 0 * 1) = evF f (-1) k := by
        simp only [evF]
        grind
      rw [e2]
      omega
    have hDr : dF (rho f) = d := by rw [eqv_d (rho_eqv f)]; exact hD
    have hneg : ∀ j : Int, 0 ≤ j → j ≤ k → evF (rho f) j 1 < 0 := by
      intro j j0 j1
      have hne := nsq_ev (p := j) (q := -1) (r := 1) (s := 0) hn hDr (by omega)
      rcases Int.lt_or_le 0 (evF (rho f) j 1) with g | g
      · have := cone1 hrv (x := j) (y := 1) (x' := k) (y' := 1) j0 (by decide) (by omega) (by decide) g hlast
        omega
      · omega
    have climb : ∀ K : Nat, (K : Int) ≤ k → itR K (rho f) = acF (rho f) 1 K 0 1 := fun K hK => climbL K (fun j _ j2 => hneg j (by omega) (by omega))
    refine ⟨k.toNat, by omega, ?_, ?_⟩
    · rw [climb _ (by omega)]
      have : (k.toNat : Int) = k := by omega
      rw [this, er, acF_acF]
      unfold rho
      rw [if_pos (by rw [e1]; omega)]
      congr 1 <;> omega
    · intro j j0 j1 g hg he
      have hends := rho_ends hg
      rw [he, climb j (by omega), evF_acF, evF_acF] at hends
      have p1 := hneg (j + 1) (by omega) (by omega)
      have p2 := hneg (j - 1) (by omega) (by omega)
      have e3 : evF (rho f) (1 * 1 + j * -1) (0 * 1 + 1 * -1) = evF (rho f) (j - 1) 1 := by
        simp only [evF]
        grind
      rw [e3, show (1 : Int) * 1 + j * 1 = j + 1 by omega, show (0 : Int) * 1 + 1 * 1 = 1 by decide] at hends
      omega
theorem cycle_on {d w : Int} (hn : nsq d) (hd0 : 0 < d) (hw : isWd d w) : ∀ (n k : Nat) (f g : Fm), k ≤ n → dF f = d → Red f → Red g → rho g = itR k (rho f) → ∃ m, g = itF d w m f := by
  intro n
  induction n with
  | zero =>
    intro k f g hk hD hf hg he
    have : k = 0 := by omega
    subst this
    exact ⟨0, rho_inj hg hf he⟩
  | succ n ih =>
    intro k f g hk hD hf hg he
    obtain ⟨K, K0, K1, K2⟩ := nx_river hn hd0 hw hD hf
    by_cases k0 : k = 0
    · subst k0
      exact ⟨0, rho_inj hg hf he⟩
    · rcases Nat.lt_or_ge k K with h | h
      · exact absurd he (K2 k (by omega) h g hg)
      · obtain ⟨m, hm⟩ := ih (k - K) (nx d w f) g (by omega) (nx_d hD (nsq_3 hn hD)) (nx_red hn hd0 hw hD hf) hg (by
          rw [← K1, ← itR_add, Nat.add_sub_cancel' h]
          exact he)
        exact ⟨m + 1, hm⟩
theorem pigeon : ∀ (M : Nat) (f : Nat → Nat), (∀ i, i ≤ M → f i < M) → ∃ i j, i < j ∧ j ≤ M ∧ f i = f j
  | 0, f, h => absurd (h 0 (by omega)) (by omega)
  | M + 1, f, h => by
    by_cases hex : ∃ i, i ≤ M ∧ f i = f (M + 1)
    · obtain ⟨i, h1, h2⟩ := hex
      exact ⟨i, M + 1, by omega, by omega, h2⟩
    · have hne : ∀ i, i ≤ M → f i ≠ f (M + 1) := fun i h1 h2 => hex ⟨i, h1, h2⟩
      have hv := h (M + 1) (by omega)
      obtain ⟨i, j, h1, h2, h3⟩ := pigeon M (fun i => if f (M + 1) < f i then f i - 1 else f i) (by
        intro i hi
        have := h i (by omega)
        have := hne i hi
        by_cases g : f (M + 1) < f i
        · rw [if_pos g]
          omega
        · rw [if_neg g]
          omega)
      refine ⟨i, j, h1, by omega, ?_⟩
      have n1 := hne i (by omega)
      have n2 := hne j (by omega)
      by_cases g1 : f (M + 1) < f i <;> by_cases g2 : f (M + 1) < f j
      · rw [if_pos g1, if_pos g2] at h3
        omega
      · rw [if_pos g1, if_neg g2] at h3
        omega
      · rw [if_neg g1, if_pos g2] at h3
        omega
      · rw [if_neg g1, if_neg g2] at h3
        exact h3
theorem nx_inj {d w : Int} {f g : Fm} (hn : nsq d) (hd0 : 0 < d) (hw : isWd d w) (hDf : dF f = d) (hDg : dF g = d) (hf : Red f) (hg : Red g) (h : nx d w f = nx d w g) : f = g := by
  have hc := nsq_3 hn hDf
  have hcg := nsq_3 hn hDg
  have h1 := red_c hn hd0 hw hDf hf
  have h2 := red_c hn hd0 hw hDg hg
  have k1 := nk_eq (d := d) (w := w) (b := f.2.1) hc
  have k2 := nk_eq (d := d) (w := w) (b := g.2.1) hcg
  obtain ⟨a, b, c⟩ := f
  obtain ⟨a', b', c'⟩ := g
  simp only [nx, Prod.mk.injEq] at h
  simp only at h1 h2 k1 k2 hc
  obtain ⟨rfl, he, -⟩ := h
  rw [← he] at k2
  generalize nkE d w b c = k at k1
  generalize nkE d w b' c = k' at k2
  generalize nbE d w b c = e at k1 k2
  have hb : b = b' := by
    have hkk : k = k' := by
      rcases Int.natAbs_eq c with g | g
      · have t1 : 2 * c * k < 2 * c * (k' + 1) := by
          rw [Int.mul_add]
          omega
        have t2 : 2 * c * k' < 2 * c * (k + 1) := by
          rw [Int.mul_add]
          omega
        have := lt_of_mul (show 0 < 2 * c by omega) t1
        have := lt_of_mul (show 0 < 2 * c by omega) t2
        omega
      · have t1 : (-(2 * c)) * k < (-(2 * c)) * (k' + 1) := by
          rw [Int.mul_add, Int.neg_mul, Int.neg_mul]
          omega
        have t2 : (-(2 * c)) * k' < (-(2 * c)) * (k + 1) := by
          rw [Int.mul_add, Int.neg_mul, Int.neg_mul]
          omega
        have := lt_of_mul (show 0 < -(2 * c) by omega) t1
        have := lt_of_mul (show 0 < -(2 * c) by omega) t2
        omega
    subst hkk
    omega
  subst hb
  simp only [dF] at hDf hDg
  have : a = a' := by
    have h4 : 4 * c * (a - a') = 0 := by grind
    rcases Int.mul_eq_zero.1 h4 with g | g
    · omega
    · omega
  subst this
  rfl
theorem red_bd {d w : Int} {f : Fm} (hn : nsq d) (hd0 : 0 < d) (hw : isWd d w) (hD : dF f = d) (hr : Red f) : 0 < f.2.1 ∧ f.2.1 ≤ w ∧ w < 2 * f.1.natAbs + f.2.1 ∧ 2 * (f.1.natAbs : Int) - f.2.1 ≤ w := by
  have h := (rdF_red hn hd0 hw hD).2 hr
  simp only [rdF, rdB] at h
  rw [if_pos hd0] at h
  exact of_decide_eq_true h
/-- a ring closes -/
theorem ring_closes {d w : Int} (hn : nsq d) (hd0 : 0 < d) (hw : isWd d w) {f : Fm} (hD : dF f = d) (hr : Red f) : ∃ N, 0 < N ∧ itF d w N f = f := by
  have inj : ∀ (n : Nat) (f g : Fm), dF f = d → dF g = d → Red f → Red g → itF d w n f = itF d w n g → f = g := by
    intro n
    induction n with
    | zero => intro f g _ _ _ _ h; exact h
    | succ n ih =>
      intro f g d1 d2 r1 r2 h
      exact nx_inj hn hd0 hw d1 d2 r1 r2 (ih _ _ (nx_d d1 (nsq_3 hn d1)) (nx_d d2 (nsq_3 hn d2)) (nx_red hn hd0 hw d1 r1) (nx_red hn hd0 hw d2 r2) h)
  have w0 := hw.1
  obtain ⟨i, j, h1, -, h3⟩ := pigeon ((2 * w + 1) * (w + 1)).toNat (fun i => (((itF d w i f).1 + w) * (w + 1) + (itF d w i f).2.1).toNat) (by
    intro i _
    obtain ⟨t1, t2⟩ := itF_red hn hd0 hw i f hD hr
    have hb := red_bd hn hd0 hw t1 t2
    generalize itF d w i f = g at *
    have l1 : (g.1 + w) * (w + 1) ≤ (2 * w) * (w + 1) := Int.mul_le_mul_of_nonneg_right (by omega) (by omega)
    have l2 : 0 ≤ (g.1 + w) * (w + 1) := Int.mul_nonneg (by omega) (by omega)
    have l3 : (2 * w + 1) * (w + 1) = (2 * w) * (w + 1) + (w + 1) := by rw [Int.add_mul, Int.one_mul]
    omega)
  obtain ⟨t1, t2⟩ := itF_red hn hd0 hw i f hD hr
  obtain ⟨u1, u2⟩ := itF_red hn hd0 hw j f hD hr
  have hb := red_bd hn hd0 hw t1 t2
  have hb' := red_bd hn hd0 hw u1 u2
  have heq : itF d w i f = itF d w j f := by
    generalize itF d w i f = g at *
    generalize itF d w j f = g' at *
    have l2 : 0 ≤ (g.1 + w) * (w + 1) := Int.mul_nonneg (by omega) (by omega)
    have l2' : 0 ≤ (g'.1 + w) * (w + 1) := Int.mul_nonneg (by omega) (by omega)
    have h4 : (g.1 + w) * (w + 1) + g.2.1 = (g'.1 + w) * (w + 1) + g'.2.1 := by omega
    have ha : g.1 = g'.1 := by
      have t1 : (w + 1) * (g.1 + w) < (w + 1) * (g'.1 + w + 1) := by
        rw [Int.mul_add (w + 1) (g'.1 + w) 1, Int.mul_comm (w + 1), Int.mul_comm (w + 1)]
        omega
      have t2 : (w + 1) * (g'.1 + w) < (w + 1) * (g.1 + w + 1) := by
        rw [Int.mul_add (w + 1) (g.1 + w) 1, Int.mul_comm (w + 1), Int.mul_comm (w + 1)]
        omega
      have := lt_of_mul (by omega) t1
      have := lt_of_mul (by omega) t2
      omega
    obtain ⟨a, b, c⟩ := g
    obtain ⟨a', b', c'⟩ := g'
    simp only at ha h4
    subst ha
    have hbb : b = b' := by omega
    subst hbb
    simp only [dF] at t1 u1
    have ha0 := nsq_1 (f := (a, b, c)) hn t1
    simp only at ha0
    have h5 : 4 * a * (c - c') = 0 := by grind
    rcases Int.mul_eq_zero.1 h5 with g | g
    · omega
    · have : c = c' := by omega
      rw [this]
  refine ⟨j - i, by omega, ?_⟩
  have : itF d w i (itF d w (j - i) f) = itF d w i f := by
    rw [← itF_add, show j - i + i = j by omega, heq]
  obtain ⟨v1, v2⟩ := itF_red hn hd0 hw (j - i) f hD hr
  exact inj i _ _ v1 hD v2 hr this
theorem itF_mul {d w : Int} {f : Fm} {N : Nat} (h : itF d w N f = f) : ∀ m, itF d w (N * m) f = f
  | 0 => rfl
  | m + 1 => by rw [Nat.mul_succ, itF_add, itF_mul h m, h]
/-- equivalent reduced forms lie in one ring -/
theorem cycle_all {d w : Int} (hn : nsq d) (hd0 : 0 < d) (hw : isWd d w) {f g : Fm} (hD : dF f = d) (hf : Red f) (hg : Red g) (he : Eqv f g) : ∃ m, g = itF d w m f := by
  have he' := eqv_trans (eqv_symm (rho_eqv f)) (eqv_trans he (rho_eqv g))
  obtain ⟨k, hk⟩ := river_both hn (rho_rv hf) (rho_rv hg) (by rw [eqv_d (rho_eqv f)]; exact hD) he'
  rcases hk with hk | hk
  · exact cycle_on hn hd0 hw k k f g (Nat.le_refl _) hD hf hg hk
  · have hDg : dF g = d := by rw [eqv_d he]; exact hD
    obtain ⟨m, hm⟩ := cycle_on hn hd0 hw k k g f (Nat.le_refl _) hDg hg hf hk
    obtain ⟨N, N0, N1⟩ := ring_closes hn hd0 hw hDg hg
    refine ⟨N * m - m, ?_⟩
    have hle : m ≤ N * m := Nat.le_mul_of_pos_left m N0
    rw [hm, ← itF_add, Nat.add_sub_cancel' hle, itF_mul N1]
theorem it_eqv {d w : Int} (hn : nsq d) : ∀ (n : Nat) (f : Fm), dF f = d → Eqv f (itF d w n f) ∧ dF (itF d w n f) = d
  | 0, f, hD => ⟨eqv_refl f, hD⟩
  | n + 1, f, hD => by
    have h := it_eqv (w := w) hn n (nx d w f) (nx_d hD (nsq_3 hn hD))
    exact ⟨eqv_trans (nx_eqv hD (nsq_3 hn hD)) h.1, h.2⟩
/-! forms below 0: one reduced form to a class -/
def RedN (f : Fm) : Prop := 0 < f.1 ∧ (f.2.1.natAbs : Int) ≤ f.1 ∧ f.1 ≤ f.2.2 ∧ (0 ≤ f.2.1 ∨ ((f.2.1.natAbs : Int) ≠ f.1 ∧ f.1 ≠ f.2.2))
theorem redN_same {f g : Fm} (hf : RedN f) (hg : RedN g) (hd : dF f = dF g) (h1 : f.1 = g.1) (h2 : f.2.1 = g.2.1) : f = g := by
  obtain ⟨a, b, c⟩ := f
  obtain ⟨a', b', c'⟩ := g
  simp only at h1 h2
  subst h1 h2
  simp only [dF] at hd
  have ha := hf.1
  simp only at ha
  have h5 : 4 * a * (c - c') = 0 := by grind
  rcases Int.mul_eq_zero.1 h5 with g | g
  · omega
  · have : c = c' := by omega
    rw [this]
theorem redN_lt {f g : Fm} (hf : RedN f) (hg : RedN g) {p q r s : Int} (h1 : p * s - q * r = 1) (he : g = acF f p q r s) (hle : g.1 ≤ f.1) : f = g := by
  have hd : dF f = dF g := by rw [he, dF_acF _ _ _ _ _ h1]
  have hf0 := hf
  have hg0 := hg
  obtain ⟨a, b, c⟩ := f
  obtain ⟨f1, f2, f3, f4⟩ := hf
  obtain ⟨g1, g2, g3, g4⟩ := hg
  simp only at f1 f2 f3 f4 hle
  have e1 : g.1 = a * p * p + b * p * r + c * r * r := by rw [he]; rfl
  have e2 : g.2.1 = 2 * a * p * q + b * (p * s + q * r) + 2 * c * r * s := by rw [he]; rfl
  have hbb : b * b ≤ a * a := by
    have := sq_le (show (0 : Int) ≤ b.natAbs by omega) f2
    have e3 : b * b = (b.natAbs : Int) * b.natAbs := by
      rw [← Int.natCast_mul, ← Int.natAbs_mul, Int.natAbs_of_nonneg (sqn b)]
    omega
  have hac : a * a ≤ a * c := Int.mul_le_mul_of_nonneg_left f3 (by omega)
  -- r is 0 or 1 or -1
  have hr : r * r ≤ 1 := by
    rcases Int.lt_or_le 1 (r * r) with h | h
    · exfalso
      have i1 : 4 * a * (a * p * p + b * p * r + c * r * r) = (2 * a * p + b * r) * (2 * a * p + b * r) + (4 * (a * c) - b * b) * (r * r) := by grind
      have i2 := sqn (2 * a * p + b * r)
      have i3 : (3 * (a * a)) * (r * r) ≤ (4 * (a * c) - b * b) * (r * r) := Int.mul_le_mul_of_nonneg_right (by omega) (by omega)
      have ha2 : 0 < a * a := Int.mul_pos f1 f1
      have i4 : (3 * (a * a)) * 2 ≤ (3 * (a * a)) * (r * r) := Int.mul_le_mul_of_nonneg_left (by omega) (by omega)
      have i5 : 4 * a * (a * p * p + b * p * r + c * r * r) ≤ 4 * a * a := Int.mul_le_mul_of_nonneg_left (by omega) (by omega)
      grind
    · exact h
  have hr3 : r = 0 ∨ r = 1 ∨ r = -1 := by
    have t1 : r * r ≤ 1 * 1 := by omega
    have t2 := le_of_sq (x := r) (y := 1) (by decide) t1
    have t3 := le_of_sq (x := -r) (y := 1) (by decide) (by rw [Int.neg_mul_neg]; exact t1)
    omega
  -- with r = 1 after a change of signs
  have one : ∀ p q s : Int, p * s - q * 1 = 1 → g.1 = a * p * p + b * p * 1 + c * 1 * 1 → g.2.1 = 2 * a * p * q + b * (p * s + q * 1) + 2 * c * 1 * s → (a, b, c) = g := by
    intro p q s h1 e1 e2
    have hp1 : p * p ≤ p.natAbs := by
      have i1 : a * (p * p) ≤ a * p.natAbs := by
        have i2 : -(b * p) ≤ a * p.natAbs := by
          have i3 : -(b * p) ≤ ((b * p).natAbs : Int) := by omega
          rw [Int.natAbs_mul, Int.natCast_mul] at i3
          have i4 : (b.natAbs : Int) * p.natAbs ≤ a * p.natAbs := Int.mul_le_mul_of_nonneg_right f2 (by omega)
          omega
        grind
      exact Int.le_of_mul_le_mul_left i1 f1
    have hp : p = 0 ∨ p = 1 ∨ p = -1 := by
      have e3 : p * p = (p.natAbs : Int) * p.natAbs := by
        rw [← Int.natCast_mul, ← Int.natAbs_mul, Int.natAbs_of_nonneg (sqn p)]
      rcases Int.lt_or_le 1 (p.natAbs : Int) with h | h
      · have := Int.mul_lt_mul_of_pos_right h (show (0 : Int) < p.natAbs by omega)
        omega
      · omega
    rcases hp with rfl | rfl | rfl
    · have hq : q = -1 := by omega
      subst hq
      have ec : g.1 = c := by grind
      have hca : c = a := by omega
      subst hca
      have eb : g.2.1 = 2 * (c * s) - b := by grind
      have hs : s = 0 ∨ s = 1 := by
        have l1 : c * s < c * 2 := by omega
        have l2 : c * -1 < c * s := by omega
        have := lt_of_mul f1 l1
        have := lt_of_mul f1 l2
        omega
      rcases hs with rfl | rfl
      · have e5 : g.2.1 = -b := by rw [eb]; omega
        have e6 : g.2.2 = c := by
          have : 4 * c * (g.2.2 - c) = 0 := by
            simp only [dF] at hd
            rw [e5, ec] at hd
            grind
          rcases Int.mul_eq_zero.1 this with y | y <;> omega
        refine redN_same hf0 hg0 hd ec.symm ?_
        simp only
        omega
      · refine redN_same hf0 hg0 hd ec.symm ?_
        simp only
        omega
    · exfalso
      omega
    · have hba : b = a := by omega
      subst hba
      have hcb : c = b := by omega
      subst hcb
      have ec : g.1 = c := by omega
      refine redN_same hf0 hg0 hd ec.symm ?_
      obtain ⟨a', b', c'⟩ := g
      simp only [dF] at hd ec g2 g3 g4 ⊢
      subst ec
      have l1 : a' * a' ≤ a' * c' := Int.mul_le_mul_of_nonneg_left g3 (by omega)
      have l2 : a' * a' ≤ b' * b' := by grind
      have e3 : b' * b' = (b'.natAbs : Int) * b'.natAbs := by
        rw [← Int.natCast_mul, ← Int.natAbs_mul, Int.natAbs_of_nonneg (sqn b')]
      have l3 := le_of_sq (x := a') (y := (b'.natAbs : Int)) (by omega) (by omega)
      omega
  rcases hr3 with rfl | rfl | rfl
  · have hp : p = 1 ∧ s = 1 ∨ p = -1 ∧ s = -1 := by
      have hps : p * s = 1 := by omega
      have h2 := congrArg Int.natAbs hps
      rw [Int.natAbs_mul] at h2
      have h3 : p.natAbs = 1 := Nat.dvd_one.1 ⟨_, h2.symm⟩
      have : p = 1 ∨ p = -1 := by omega
      rcases this with h | h
      · subst h
        omega
      · subst h
        omega
    have ea : g.1 = a := by
      rcases hp with ⟨rfl, rfl⟩ | ⟨rfl, rfl⟩ <;> grind
    obtain ⟨m, hm⟩ : ∃ m, g.2.1 = b + 2 * (a * m) := by
      rcases hp with ⟨rfl, rfl⟩ | ⟨rfl, rfl⟩
      · exact ⟨q, by grind⟩
      · exact ⟨-q, by grind⟩
    refine redN_same hf0 hg0 hd ea.symm ?_
    have l1 : a * m < a * 1 := by omega
    have l2 : a * -1 < a * m := by omega
    have := lt_of_mul f1 l1
    have := lt_of_mul f1 l2
    have hm0 : m = 0 := by omega
    subst hm0
    simp only
    omega
  · exact one p q s h1 e1 e2
  · exact one (-p) (-q) (-s) (by grind) (by grind) (by grind)
theorem redN_all {f g : Fm} (hf : RedN f) (hg : RedN g) (he : Eqv f g) : f = g := by
  rcases Int.lt_or_le f.1 g.1 with h | h
  · obtain ⟨p, q, r, s, h1, h2⟩ := eqv_symm he
    exact (redN_lt hg hf h1 h2 (by omega)).symm
  · obtain ⟨p, q, r, s, h1, h2⟩ := he
    exact redN_lt hf hg h1 h2 h
