/-! the river with its matrices: every automorph comes round the ring -/
def sgM (e : Int) (m : mxI) : mxI := (e * m.1, e * m.2.1, e * m.2.2.1, e * m.2.2.2)
theorem sgM_one (m : mxI) : sgM 1 m = m := by
  refine mx_ext ?_ ?_ ?_ ?_ <;> (simp only [sgM]; grind)
theorem sgM_sgM (e e' : Int) (m : mxI) : sgM e (sgM e' m) = sgM (e * e') m := by
  refine mx_ext ?_ ?_ ?_ ?_ <;> (simp only [sgM]; grind)
theorem sgM_mm (e : Int) (a b : mxI) : mm (sgM e a) b = sgM e (mm a b) := by
  refine mx_ext ?_ ?_ ?_ ?_ <;> (simp only [sgM, mm]; grind)
theorem mm_sgM (e : Int) (a b : mxI) : mm a (sgM e b) = sgM e (mm a b) := by
  refine mx_ext ?_ ?_ ?_ ?_ <;> (simp only [sgM, mm]; grind)
def stRv (f : Fm) : mxI := if 0 < f.1 + f.2.1 + f.2.2 then (1, 0, 1, 1) else (1, 1, 0, 1)
theorem stRv_u {f : Fm} (h : 0 < evF f 1 1) : stRv f = (1, 0, 1, 1) := if_pos (by simp only [evF] at h; omega)
theorem stRv_l {f : Fm} (h : evF f 1 1 < 0) : stRv f = (1, 1, 0, 1) := if_neg (by simp only [evF] at h; omega)
def mR : Nat → Fm → mxI
  | 0, _ => I2
  | k + 1, f => mm (stRv f) (mR k (Rf f))
theorem mR_add : ∀ (a b : Nat) (f : Fm), mR (a + b) f = mm (mR a f) (mR b (itR a f))
  | 0, b, f => by rw [Nat.zero_add]; exact (one_mm _).symm
  | a + 1, b, f => by
    rw [show a + 1 + b = (a + b) + 1 by omega]
    show mm (stRv f) (mR (a + b) (Rf f)) = mm (mm (stRv f) (mR a (Rf f))) (mR b (itR (a + 1) f))
    rw [mR_add a b (Rf f), mm_assoc]
    rfl
theorem mR_succ (k : Nat) (f : Fm) : mR (k + 1) f = mm (mR k f) (stRv (itR k f)) := by
  rw [mR_add k 1 f]
  show mm (mR k f) (mm (stRv (itR k f)) I2) = _
  rw [mm_one]
theorem river_mat {d : Int} (hn : nsq d) : ∀ (n : Nat) (f : Fm) (p q r s : Int), p + q + r + s ≤ n → rvF f → dF f = d → 0 < p → 0 < s → 0 ≤ q → 0 ≤ r → p * s - q * r = 1 → rvF (acF f p q r s) → ∃ k, acF f p q r s = itR k f ∧ (p, q, r, s) = mR k f := by
  intro n
  induction n with
  | zero =>
    intro f p q r s hs
    omega
  | succ n ih =>
    intro f p q r s hsum hf hd hp hs hq hr h1 hg
    have hg' := hg
    obtain ⟨g1, g3⟩ := hg'
    rw [acF_1] at g1
    rw [acF_3] at g3
    have hne := nsq_ev11 hn hd
    rcases Int.lt_or_le r p with hrp | hrp
    · rcases Int.lt_or_le q s with hqs | hqs
      · have l1 : (r + 1) * s ≤ p * s := Int.mul_le_mul_of_nonneg_right (by omega) (by omega)
        have l2 : r * q ≤ r * (s - 1) := Int.mul_le_mul_of_nonneg_left (by omega) hr
        have l3 : s + r ≤ 1 := by grind
        have hs1 : s = 1 := by omega
        have hr0 : r = 0 := by omega
        have hq0 : q = 0 := by omega
        subst hs1 hr0 hq0
        have hp1 : p = 1 := by omega
        subst hp1
        exact ⟨0, acF_one f, rfl⟩
      · have hneg : evF f 1 1 < 0 := by
          rcases Int.lt_or_le (evF f 1 1) 0 with h | h
          · exact h
          · have := cone1 hf (x := 1) (y := 1) (x' := q) (y' := s) (by decide) (by decide) hq (by omega) (by omega) g3
            omega
        have e : acF f p q r s = acF (Rf f) (p - r) (q - s) r s := by
          rw [Rf_l hneg, acF_acF]
          congr 1 <;> omega
        have hrv : rvF (Rf f) := by
          rw [Rf_l hneg]
          refine ⟨?_, ?_⟩
          · rw [acF_1]
            have := hf.1
            simp only [evF]
            omega
          · rw [acF_3]
            exact hneg
        obtain ⟨k, hk, hk2⟩ := ih (Rf f) (p - r) (q - s) r s (by omega) hrv (by rw [Rf_l hneg, dF_acF _ _ _ _ _ (by decide)]; exact hd) (by omega) hs (by omega) hr (by grind) (e ▸ hg)
        refine ⟨k + 1, by rw [e, hk]; rfl, ?_⟩
        show _ = mm (stRv f) (mR k (Rf f))
        rw [← hk2, stRv_l hneg]
        refine mx_ext ?_ ?_ ?_ ?_ <;> (simp only [mm]; omega)
    · have hsq : q < s := by
        rcases Int.lt_or_le q s with h | h
        · exact h
        · have l1 : p * s ≤ p * q := Int.mul_le_mul_of_nonneg_left h (by omega)
          have l2 : q * p ≤ q * r := Int.mul_le_mul_of_nonneg_left hrp hq
          grind
      have hpos : 0 < evF f 1 1 := by
        rcases Int.lt_or_le 0 (evF f 1 1) with h | h
        · exact h
        · have := cone1 hf (x := p) (y := r) (x' := 1) (y' := 1) (by omega) hr (by decide) (by decide) g1 (by omega)
          omega
      have e : acF f p q r s = acF (Rf f) p q (r - p) (s - q) := by
        rw [Rf_u hpos, acF_acF]
        congr 1 <;> omega
      have hrv : rvF (Rf f) := by
        rw [Rf_u hpos]
        refine ⟨?_, ?_⟩
        · rw [acF_1]
          exact hpos
        · rw [acF_3]
          have := hf.2
          simp only [evF]
          omega
      obtain ⟨k, hk, hk2⟩ := ih (Rf f) p q (r - p) (s - q) (by omega) hrv (by rw [Rf_u hpos, dF_acF _ _ _ _ _ (by decide)]; exact hd) hp (by omega) hq (by omega) (by grind) (e ▸ hg)
      refine ⟨k + 1, by rw [e, hk]; rfl, ?_⟩
      show _ = mm (stRv f) (mR k (Rf f))
      rw [← hk2, stRv_u hpos]
      refine mx_ext ?_ ?_ ?_ ?_ <;> (simp only [mm]; omega)
theorem climbUm {f : Fm} : ∀ (K : Nat), (∀ j : Nat, 1 ≤ j → j ≤ K → 0 < evF f 1 j) → mR K f = (1, 0, (K : Int), 1)
  | 0, _ => rfl
  | K + 1, h => by
    rw [mR_succ, climbUm K (fun j h1 h2 => h j h1 (by omega)), climbU K (fun j h1 h2 => h j h1 (by omega))]
    rw [stRv_u (by
      rw [evF_acF]
      have := h (K + 1) (by omega) (by omega)
      rw [show (1 : Int) * 1 + 0 * 1 = 1 by decide, show (K : Int) * 1 + 1 * 1 = ((K + 1 : Nat) : Int) by omega]
      exact this)]
    refine mx_ext ?_ ?_ ?_ ?_ <;> (simp only [mm]; omega)
theorem climbLm {f : Fm} : ∀ (K : Nat), (∀ j : Nat, 1 ≤ j → j ≤ K → evF f j 1 < 0) → mR K f = (1, (K : Int), 0, 1)
  | 0, _ => rfl
  | K + 1, h => by
    rw [mR_succ, climbLm K (fun j h1 h2 => h j h1 (by omega)), climbL K (fun j h1 h2 => h j h1 (by omega))]
    rw [stRv_l (by
      rw [evF_acF]
      have := h (K + 1) (by omega) (by omega)
      rw [show (0 : Int) * 1 + 1 * 1 = 1 by decide, show (1 : Int) * 1 + K * 1 = ((K + 1 : Nat) : Int) by omega]
      exact this)]
    refine mx_ext ?_ ?_ ?_ ?_ <;> (simp only [mm]; omega)
def rhM (f : Fm) : mxI := if 0 < f.1 then I2 else (0, -1, 1, 0)
theorem rho_ac (f : Fm) : rho f = acM f (rhM f) := by
  unfold rho rhM
  split
  · exact (acM_one f).symm
  · rfl
theorem nx_rivm {d w : Int} {f : Fm} (hn : nsq d) (hd0 : 0 < d) (hw : isWd d w) (hD : dF f = d) (hr : Red f) : ∃ K : Nat, 0 < K ∧ itR K (rho f) = rho (nx d w f) ∧ (∀ j, 0 < j → j < K → ∀ g, Red g → rho g ≠ itR j (rho f)) ∧ ∃ e : Int, (e = 1 ∨ e = -1) ∧ mm (rhM f) (mR K (rho f)) = sgM e (mm (sM (nkE d w f.2.1 f.2.2)) (rhM (nx d w f))) := by
  have hc := nsq_3 hn hD
  have hrn := nx_red hn hd0 hw hD hr
  have hac := nx_ac (w := w) hD hc
  have hk := nk_eq (d := d) (w := w) (b := f.2.1) hc
  have hnb := (nb_red hn hd0 hw hD hr).1
  have hb := hr.2.1
  generalize nkE d w f.2.1 f.2.2 = k at hk hac ⊢
  generalize nbE d w f.2.1 f.2.2 = e at hk hnb
  have hsn := red_sign hrn
  rw [hac] at hsn ⊢
  have e1 : (acF f 0 (-1) 1 k).1 = f.2.2 := by
    simp only [acF]
    grind
  rw [e1, acF_3] at hsn
  rcases red_sign hr with ⟨h1, h2⟩ | ⟨h1, h2⟩
  · have hrv : rvF f := ⟨h1, h2⟩
    have hk0 : k < 0 := by
      have : (-(2 * f.2.2)) * k < 0 := by grind
      exact neg_of_mul (by omega) this
    have hlast : 0 < evF f 1 (-k) := by
      have e2 : evF f 1 (-k) = evF f (-1) k := by
        simp only [evF]
        grind
      rw [e2]
      omega
    have hpos : ∀ j : Int, 0 ≤ j → j ≤ -k → 0 < evF f 1 j := by
      intro j j0 j1
      have hne := nsq_ev (p := 1) (q := 0) (r := j) (s := 1) hn hD (by omega)
      rcases Int.lt_or_le (evF f 1 j) 0 with g | g
      · have := cone1 hrv (x := 1) (y := -k) (x' := 1) (y' := j) (by decide) (by omega) (by decide) j0 hlast g
        omega
      · omega
    have er : rho f = f := by
      unfold rho
      rw [if_pos h1]
    have climb : ∀ K : Nat, (K : Int) ≤ -k → itR K f = acF f 1 0 K 1 := fun K hK => climbU K (fun j _ j2 => hpos j (by omega) (by omega))
    refine ⟨(-k).toNat, by omega, ?_, ?_, -1, Or.inr rfl, ?_⟩
    · rw [er, climb _ (by omega)]
      have : ((-k).toNat : Int) = -k := by omega
      rw [this]
      unfold rho
      rw [if_neg (by rw [e1]; omega), acF_acF, ← acF_neg f 1 0 (-k) 1]
      congr 1 <;> omega
    · intro j j0 j1 g hg he
      have hends := rho_ends hg
      rw [he, er, climb j (by omega), evF_acF, evF_acF] at hends
      have p1 := hpos (j + 1) (by omega) (by omega)
      have p2 := hpos (j - 1) (by omega) (by omega)
      rw [show (1 : Int) * 1 + 0 * 1 = 1 by decide, show (1 : Int) * 1 + 0 * -1 = 1 by decide, show (j : Int) * 1 + 1 * 1 = j + 1 by omega, show (j : Int) * 1 + 1 * -1 = j - 1 by omega] at hends
      omega
    · have hm := climbUm (f := f) (-k).toNat (fun j _ j2 => hpos j (by omega) (by omega))
      have : ((-k).toNat : Int) = -k := by omega
      rw [this] at hm
      rw [er, hm]
      have r1 : rhM f = I2 := if_pos h1
      have r2 : rhM (acF f 0 (-1) 1 k) = (0, -1, 1, 0) := if_neg (by rw [e1]; omega)
      rw [r1, r2]
      refine mx_ext ?_ ?_ ?_ ?_ <;> (simp only [mm, sgM, sM, I2]; omega)
  · have er : rho f = acF f 0 (-1) 1 0 := by
      unfold rho
      rw [if_neg (by omega)]
    have hrv := rho_rv hr
    have hk0 : 0 < k := by
      have : 0 < (2 * f.2.2) * k := by omega
      exact pos_of_mul (by omega) this
    have hlast : evF (rho f) k 1 < 0 := by
      rw [er, evF_acF]
      have e2 : evF f (0 * k + -1 * 1) (1 * k + 0 * 1) = evF f (-1) k := by
        simp only [evF]
        grind
      rw [e2]
      omega
    have hDr : dF (rho f) = d := by rw [eqv_d (rho_eqv f)]; exact hD
    have hneg : ∀ j : Int, 0 ≤ j → j ≤ k → evF (rho f) j 1 < 0 := by
      intro j j0 j1
      have hne := nsq_ev (p := j) (q := -1) (r := 1) (s := 0) hn hDr (by omega)
      rcases Int.lt_or_le 0 (evF (rho f) j 1) with g | g
      · have := cone1 hrv (x := j) (y := 1) (x' := k) (y' := 1) j0 (by decide) (by omega) (by decide) g hlast
        omega
      · omega
    have climb : ∀ K : Nat, (K : Int) ≤ k → itR K (rho f) = acF (rho f) 1 K 0 1 := fun K hK => climbL K (fun j _ j2 => hneg j (by omega) (by omega))
    refine ⟨k.toNat, by omega, ?_, ?_, 1, Or.inl rfl, ?_⟩
    · rw [climb _ (by omega)]
      have : (k.toNat : Int) = k := by omega
      rw [this, er, acF_acF]
      unfold rho
      rw [if_pos (by rw [e1]; omega)]
      congr 1 <;> omega
    · intro j j0 j1 g hg he
      have hends := rho_ends hg
      rw [he, climb j (by omega), evF_acF, evF_acF] at hends
      have p1 := hneg (j + 1) (by omega) (by omega)
      have p2 := hneg (j - 1) (by omega) (by omega)
      have e3 : evF (rho f) (1 * 1 + j * -1) (0 * 1 + 1 * -1) = evF (rho f) (j - 1) 1 := by
        simp only [evF]
        grind
      rw [e3, show (1 : Int) * 1 + j * 1 = j + 1 by omega, show (0 : Int) * 1 + 1 * 1 = 1 by decide] at hends
      omega
    · have hm := climbLm (f := rho f) k.toNat (fun j _ j2 => hneg j (by omega) (by omega))
      have : (k.toNat : Int) = k := by omega
      rw [this] at hm
      rw [hm]
      have r1 : rhM f = (0, -1, 1, 0) := if_neg (by omega)
      have r2 : rhM (acF f 0 (-1) 1 k) = I2 := if_pos (by rw [e1]; omega)
      rw [r1, r2]
      refine mx_ext ?_ ?_ ?_ ?_ <;> (simp only [mm, sgM, sM, I2]; omega)
theorem cyc_mat {d w : Int} (hn : nsq d) (hd0 : 0 < d) (hw : isWd d w) : ∀ (n k : Nat) (f g : Fm), k ≤ n → dF f = d → Red f → Red g → rho g = itR k (rho f) → ∃ m, g = itF d w m f ∧ ∃ e : Int, (e = 1 ∨ e = -1) ∧ mm (rhM f) (mR k (rho f)) = sgM e (mm (itM d w m f I2) (rhM g)) := by
  intro n
  induction n with
  | zero =>
    intro k f g hk hD hf hg he
    have : k = 0 := by omega
    subst this
    have e := rho_inj hg hf he
    subst e
    refine ⟨0, rfl, 1, Or.inl rfl, ?_⟩
    show mm (rhM g) I2 = sgM 1 (mm I2 (rhM g))
    rw [mm_one, one_mm, sgM_one]
  | succ n ih =>
    intro k f g hk hD hf hg he
    obtain ⟨K, K0, K1, K2, e1, he1, hm1⟩ := nx_rivm hn hd0 hw hD hf
    by_cases k0 : k = 0
    · subst k0
      have e := rho_inj hg hf he
      subst e
      refine ⟨0, rfl, 1, Or.inl rfl, ?_⟩
      show mm (rhM g) I2 = sgM 1 (mm I2 (rhM g))
      rw [mm_one, one_mm, sgM_one]
    · rcases Nat.lt_or_ge k K with h | h
      · exact absurd he (K2 k (by omega) h g hg)
      · obtain ⟨m, hm, e2, he2, hm2⟩ := ih (k - K) (nx d w f) g (by omega) (nx_d hD (nsq_3 hn hD)) (nx_red hn hd0 hw hD hf) hg (by
          rw [← K1, ← itR_add, Nat.add_sub_cancel' h]
          exact he)
        refine ⟨m + 1, hm, e1 * e2, by rcases he1 with rfl | rfl <;> rcases he2 with rfl | rfl <;> simp, ?_⟩
        have ek : k = K + (k - K) := by omega
        rw [ek, mR_add, ← mm_assoc, hm1, K1, sgM_mm, mm_assoc, hm2, mm_sgM, sgM_sgM, ← mm_assoc]
        congr 2
        show mm (sM _) (itM d w m (nx d w f) I2) = itM d w m (nx d w f) (stM _ I2)
        rw [itM_mm d w m _ (stM _ I2), stM_mm, one_mm]
/-- an automorph with numbers that are not below 0 comes round the ring -/
theorem aut_ring {d w : Int} (hn : nsq d) (hd0 : 0 < d) (hw : isWd d w) {g : Fm} (hD : dF g = d) (hr : Red g) (ha : 0 < g.1) {p q r s : Int} (hp : 0 < p) (hs : 0 < s) (hq : 0 ≤ q) (hr0 : 0 ≤ r) (hdet : p * s - q * r = 1) (hac : acF g p q r s = g) : ∃ m, itF d w m g = g ∧ ∃ e : Int, (e = 1 ∨ e = -1) ∧ (p, q, r, s) = sgM e (itM d w m g I2) := by
  have er : rho g = g := if_pos ha
  have hrv : rvF g := by
    have := rho_rv hr
    rwa [er] at this
  obtain ⟨k, k1, k2⟩ := river_mat hn (p + q + r + s).toNat g p q r s (by omega) hrv hD hp hs hq hr0 hdet (by rw [hac]; exact hrv)
  obtain ⟨m, m1, e, he, m2⟩ := cyc_mat hn hd0 hw k k g g (Nat.le_refl _) hD hr hr (by rw [er, ← k1, hac])
  refine ⟨m, m1.symm, e, he, ?_⟩
  have r1 : rhM g = I2 := if_pos ha
  rw [r1, one_mm, mm_one, er] at m2
  rw [k2, m2]
