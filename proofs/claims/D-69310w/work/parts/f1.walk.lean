/-! the walk of a form to a reduced one: all is small -/
theorem trm_first {d w : Int} : ∀ (e : Nat) (f : Fm), trm d w e f → ∀ i, i < e → rdF d w (itF d w i f) = false
  | 0, _, _, i, hi => by omega
  | e + 1, f, h, 0, _ => h.1.2
  | e + 1, f, h, i + 1, hi => trm_first e (nx d w f) h.2 i (by omega)
def pK (d w : Int) : Nat → Fm → Nat
  | 0, _ => 1
  | n + 1, f => ((nkE d w f.2.1 f.2.2).natAbs + 1) * pK d w n (nx d w f)
theorem pK_pos (d w : Int) : ∀ (n : Nat) (f : Fm), 1 ≤ pK d w n f
  | 0, _ => Nat.le_refl _
  | n + 1, f => by
    have := pK_pos d w n (nx d w f)
    exact Nat.le_trans this (Nat.le_mul_of_pos_left _ (by omega))
theorem pK_add (d w : Int) : ∀ (m n : Nat) (f : Fm), pK d w (m + n) f = pK d w m f * pK d w n (itF d w m f)
  | 0, n, f => by rw [Nat.zero_add]; exact (Nat.one_mul _).symm
  | m + 1, n, f => by
    rw [show m + 1 + n = (m + n) + 1 by omega]
    show _ * pK d w (m + n) (nx d w f) = _ * pK d w m (nx d w f) * _
    rw [pK_add d w m n (nx d w f), Nat.mul_assoc]
    rfl
theorem pK_mono (d w : Int) (f : Fm) {m n : Nat} (h : m ≤ n) : pK d w m f ≤ pK d w n f := by
  obtain ⟨k, rfl⟩ := Nat.exists_eq_add_of_le h
  rw [pK_add]
  exact Nat.le_mul_of_pos_right _ (pK_pos d w k _)
def bdE (m : mxI) (K : Nat) : Prop := m.1.natAbs ≤ K ∧ m.2.1.natAbs ≤ K ∧ m.2.2.1.natAbs ≤ K ∧ m.2.2.2.natAbs ≤ K
theorem itM_pK (d w : Int) (f : Fm) : ∀ n : Nat, bdE (itM d w n f I2) (pK d w n f)
  | 0 => by
    show (1 : Int).natAbs ≤ 1 ∧ (0 : Int).natAbs ≤ 1 ∧ (0 : Int).natAbs ≤ 1 ∧ (1 : Int).natAbs ≤ 1
    decide
  | n + 1 => by
    obtain ⟨h1, h2, h3, h4⟩ := itM_pK d w f n
    have e : pK d w (n + 1) f = pK d w n f * ((tnF d w f n).natAbs + 1) := by
      rw [pK_add]
      show _ * (_ * 1) = _
      rw [Nat.mul_one]
      rfl
    rw [itM_suc, e]
    generalize itM d w n f I2 = m at *
    generalize pK d w n f = P at *
    generalize tnF d w f n = k at *
    have up : ∀ x y : Int, x.natAbs ≤ P → y.natAbs ≤ P → (y * k - x).natAbs ≤ P * (k.natAbs + 1) := by
      intro x y hx hy
      have a1 : (y * k - x).natAbs ≤ (y * k).natAbs + x.natAbs := Int.natAbs_sub_le _ _
      rw [Int.natAbs_mul] at a1
      have a2 : y.natAbs * k.natAbs ≤ P * k.natAbs := Nat.mul_le_mul_right _ hy
      rw [Nat.mul_add, Nat.mul_one]
      omega
    have lo : ∀ y : Int, y.natAbs ≤ P → y.natAbs ≤ P * (k.natAbs + 1) := fun y hy => Nat.le_trans hy (Nat.le_mul_of_pos_right _ (by omega))
    exact ⟨lo _ h2, up _ _ h1 h2, lo _ h4, up _ _ h3 h4⟩
theorem k_le {d w : Int} {f : Fm} (hc : f.2.2 ≠ 0) : 2 * (f.2.2.natAbs * (nkE d w f.2.1 f.2.2).natAbs) ≤ f.2.1.natAbs + (nx d w f).2.1.natAbs := by
  have hk := nk_eq (d := d) (w := w) (b := f.2.1) hc
  have e : (2 * f.2.2 * nkE d w f.2.1 f.2.2).natAbs = 2 * (f.2.2.natAbs * (nkE d w f.2.1 f.2.2).natAbs) := by
    rw [Int.natAbs_mul, Int.natAbs_mul, Nat.mul_assoc]
    rfl
  rw [← e, ← hk]
  exact Int.natAbs_add_le _ _
theorem k_le1 {d w : Int} {f : Fm} (hc : f.2.2 ≠ 0) : 2 * (nkE d w f.2.1 f.2.2).natAbs ≤ f.2.1.natAbs + (nx d w f).2.1.natAbs := by
  have h := k_le (d := d) (w := w) hc
  have : 1 * (nkE d w f.2.1 f.2.2).natAbs ≤ f.2.2.natAbs * (nkE d w f.2.1 f.2.2).natAbs := Nat.mul_le_mul_right _ (by omega)
  omega
section
theorem near_b {d w : Int} (hn : nsq d) (hd0 : 0 < d) (hw : isWd d w) (hw4 : w ≤ 1024) {f : Fm} (hc : f.2.2 ≠ 0) (h : (f.2.2.natAbs : Int) ≤ w) : ((nx d w f).2.1.natAbs : Int) ≤ w := by
  have h1 := nbE_in d w f.2.1 f.2.2 hc
  unfold hiE at h1
  rw [if_neg (by omega)] at h1
  have h2 : (nx d w f).2.1 = nbE d w f.2.1 f.2.2 := rfl
  rw [h2]
  omega
/-- products of the steps, on the way to a reduced form -/
theorem pK_near {d w : Int} (hn : nsq d) (hd0 : 0 < d) (hw : isWd d w) (hw4 : w ≤ 1024) {f : Fm} (hD : dF f = d) (hc : (f.2.2.natAbs : Int) ≤ w) {B : Nat} (hb : f.2.1.natAbs ≤ B) (hB : w ≤ B) : ∃ m, m ≤ 2 ∧ rdF d w (itF d w m f) = true ∧ pK d w m f ≤ 4096 * B := by
  have c0 := nsq_3 hn hD
  obtain ⟨a1, a2⟩ := red2 hd0 hw hD c0 hc
  have b1 := near_b hn hd0 hw hw4 c0 hc
  have k1 := k_le1 (d := d) (w := w) c0
  have B1 : 1 ≤ B := by omega
  rcases Int.lt_or_le w (2 * (f.2.2.natAbs : Int)) with g | g
  · have e := a2 g
    have D2 := nx_d (w := w) hD c0
    have c1 := nsq_3 hn D2
    refine ⟨2, by omega, (red2 hd0 hw D2 c1 (by omega)).1 e, ?_⟩
    have b2 := near_b hn hd0 hw hw4 c1 (by omega)
    have k2 := k_le1 (d := d) (w := w) c1
    show ((nkE d w f.2.1 f.2.2).natAbs + 1) * (((nkE d w (nx d w f).2.1 (nx d w f).2.2).natAbs + 1) * 1) ≤ 4096 * B
    have q1 : (nkE d w f.2.1 f.2.2).natAbs + 1 ≤ 2 * B := by omega
    have q2 : (nkE d w (nx d w f).2.1 (nx d w f).2.2).natAbs + 1 ≤ 2048 := by omega
    rw [Nat.mul_one]
    have := Nat.mul_le_mul q1 q2
    omega
  · refine ⟨1, by omega, a1 g, ?_⟩
    show ((nkE d w f.2.1 f.2.2).natAbs + 1) * 1 ≤ 4096 * B
    omega
theorem pK_far {d w : Int} (hn : nsq d) (hd0 : 0 < d) (hw : isWd d w) (hw4 : w ≤ 1024) : ∀ (s : Nat) (f : Fm) (B : Nat), dF f = d → (f.2.2.natAbs : Int) ≤ w * 4 ^ s → f.2.1.natAbs ≤ B → (w < (f.2.2.natAbs : Int) → 4 * f.2.2.natAbs ≤ B) → w ≤ B → ∃ m, rdF d w (itF d w m f) = true ∧ pK d w m f ≤ 4096 * B
  | 0, f, B, hD, hs, hb, _, hB => by
    obtain ⟨m, m1, m2, m3⟩ := pK_near hn hd0 hw hw4 hD (by simpa using hs) hb hB
    exact ⟨m, m2, m3⟩
  | s + 1, f, B, hD, hs, hb, h4, hB => by
    have c0 := nsq_3 hn hD
    rcases Int.lt_or_le w (f.2.2.natAbs : Int) with g | g
    · have r := red1 hd0 hw hD c0 g
      obtain ⟨m, m2, m3⟩ := pK_far hn hd0 hw hw4 s (nx d w f) f.2.2.natAbs (nx_d hD c0) (by
        have : w * 4 ^ (s + 1) = 4 * (w * 4 ^ s) := by rw [Int.pow_succ]; grind
        omega) (by omega) (fun _ => by omega) (by omega)
      refine ⟨m + 1, m2, ?_⟩
      have k1 := k_le (d := d) (w := w) c0
      show ((nkE d w f.2.1 f.2.2).natAbs + 1) * pK d w m (nx d w f) ≤ 4096 * B
      have q1 : ((nkE d w f.2.1 f.2.2).natAbs + 1) * pK d w m (nx d w f) ≤ ((nkE d w f.2.1 f.2.2).natAbs + 1) * (4096 * f.2.2.natAbs) := Nat.mul_le_mul_left _ m3
      have q2 : ((nkE d w f.2.1 f.2.2).natAbs + 1) * (4096 * f.2.2.natAbs) = 4096 * (f.2.2.natAbs * (nkE d w f.2.1 f.2.2).natAbs + f.2.2.natAbs) := by grind
      have := h4 g
      rw [q2] at q1
      omega
    · obtain ⟨m, m1, m2, m3⟩ := pK_near hn hd0 hw hw4 hD g hb hB
      exact ⟨m, m2, m3⟩
end
/-- below 0: a form's values bound their places -/
theorem pos_bd {d : Int} {f : Fm} (hd : d < 0) (hD : dF f = d) (ha : 0 < f.1) (hc : 0 < f.2.2) {x y n : Int} (h : evF f x y = n) : y * y ≤ 4 * f.1 * n ∧ x * x ≤ 4 * f.2.2 * n ∧ (-d) * (y * y) ≤ 4 * f.1 * n ∧ (-d) * (x * x) ≤ 4 * f.2.2 * n := by
  obtain ⟨a, b, c⟩ := f
  have hD' : b * b - 4 * a * c = d := hD
  have h' : a * x * x + b * x * y + c * y * y = n := h
  simp only at ha hc ⊢
  have e1 : 4 * a * n = (2 * a * x + b * y) * (2 * a * x + b * y) + (-d) * (y * y) := by
    rw [← h', ← hD']
    grind
  have e2 : 4 * c * n = (2 * c * y + b * x) * (2 * c * y + b * x) + (-d) * (x * x) := by
    rw [← h', ← hD']
    grind
  have s1 := sqn (2 * a * x + b * y)
  have s2 := sqn (2 * c * y + b * x)
  have t1 : 1 * (y * y) ≤ (-d) * (y * y) := Int.mul_le_mul_of_nonneg_right (by omega) (sqn y)
  have t2 : 1 * (x * x) ≤ (-d) * (x * x) := Int.mul_le_mul_of_nonneg_right (by omega) (sqn x)
  omega
def cfB (f : Fm) (H : Nat) : Prop := f.1.natAbs ≤ H ∧ f.2.1.natAbs ≤ H ∧ f.2.2.natAbs ≤ H
theorem cf_nx {d w : Int} (hn : nsq d) (hdb : -1048576 ≤ d ∧ d ≤ 1048576) (hw : wdP d w) (hw4 : w ≤ 1024) {f : Fm} (hV : Vld d f) {H : Nat} (hH : 1048576 ≤ H) (ho : cfB f H) : cfB (nx d w f) H := by
  obtain ⟨o1, o2, o3⟩ := ho
  have c0 := nsq_3 hn hV.1
  have e1 : (nx d w f).1 = f.2.2 := rfl
  rcases hw with ⟨hd, rfl⟩ | ⟨hd, hw⟩
  · obtain ⟨hc, hc', ⟨b1, b2⟩, hD'⟩ := neg_nx (w := -1) hd hV.1 (hV.2.2 hd)
    have h3 := sq_abs (x := (nx d (-1) f).2.1) (C := f.2.2) (by omega) (by omega)
    refine ⟨by rw [e1]; omega, by omega, ?_⟩
    have : f.2.2 * (4 * (nx d (-1) f).2.2) ≤ f.2.2 * (f.2.2 + 1048576) := by
      have e2 : 4 * f.2.2 * (nx d (-1) f).2.2 = f.2.2 * (4 * (nx d (-1) f).2.2) := by grind
      rw [Int.mul_add]
      have : 1048576 * 1 ≤ 1048576 * f.2.2 := by omega
      omega
    have := Int.le_of_mul_le_mul_left this hc
    omega
  · have h5 := nx_c1 (w := w) hV.1 c0
    rcases Int.lt_or_le w (f.2.2.natAbs : Int) with g | g
    · have r := red1 hd hw hV.1 c0 g
      exact ⟨by rw [e1]; omega, by omega, by omega⟩
    · have h1 := nbE_in d w f.2.1 f.2.2 c0
      unfold hiE at h1
      rw [if_neg (by omega)] at h1
      have h2 : (nx d w f).2.1 = nbE d w f.2.1 f.2.2 := rfl
      rw [← h2] at h1
      have h3 := sq_abs (x := (nx d w f).2.1) (C := w) (by omega) (by omega)
      have h4 := hw.2.1
      have h7 := sqn (nx d w f).2.1
      have : 1 * (4 * ((nx d w f).2.2.natAbs : Int)) ≤ (f.2.2.natAbs : Int) * (4 * (nx d w f).2.2.natAbs) := Int.mul_le_mul_of_nonneg_right (by omega) (by omega)
      exact ⟨by rw [e1]; omega, by omega, by omega⟩
theorem cf_it {d w : Int} (hn : nsq d) (hdb : -1048576 ≤ d ∧ d ≤ 1048576) (hw : wdP d w) (hw4 : w ≤ 1024) {H : Nat} (hH : 1048576 ≤ H) : ∀ (m : Nat) (f : Fm), Vld d f → cfB f H → cfB (itF d w m f) H
  | 0, _, _, h => h
  | m + 1, f, hV, h => cf_it hn hdb hw hw4 hH m (nx d w f) (nx_vld hn hV) (cf_nx hn hdb hw hw4 hV hH h)
theorem posT_vl {d w : Int} (hn : nsq d) (hd : d < 0) : ∀ (m : Nat) (f : Fm), Vld d f → posT d w m f
  | 0, _, h => h.2.2 hd
  | m + 1, f, h => ⟨h.2.2 hd, posT_vl hn hd m (nx d w f) (nx_vld hn h)⟩
theorem abs_le_of_sq {x : Int} {K : Nat} (h : x * x ≤ (K : Int) * K) : x.natAbs ≤ K := by
  have e := abs_sq x
  have := le_of_sq (x := (x.natAbs : Int)) (y := (K : Int)) (by omega) (by omega)
  omega
/-- THE WALK OF A FORM -/
theorem walk {d w : Int} (hn : nsq d) (hdb : -1048576 ≤ d ∧ d ≤ 1048576) (hw : wdP d w) (hw4 : w ≤ 1024) {f : Fm} (hV : Vld d f) {H : Nat} (hH : 1048576 ≤ H ∧ H ≤ 1073741824) (ho : cfB f H) : ∃ e, e ≤ 34 ∧ trm d w e f ∧ (d < 0 → posT d w e f) ∧ (∀ i, cfB (itF d w i f) H) ∧ (∀ i, i ≤ e → bdE (itM d w i f I2) (16384 * H)) ∧ (∀ i, (tnF d w f i).natAbs ≤ H) := by
  have c0 := nsq_3 hn hV.1
  have okf : okF f := by
    obtain ⟨o1, o2, o3⟩ := ho
    exact ⟨by omega, by omega, by omega, c0⟩
  obtain ⟨e, e1, e2⟩ := come_trm hn hdb hw hw4 hV okf
  have cf := fun i => cf_it hn hdb hw hw4 hH.1 i f hV ho
  refine ⟨e, e1, e2, fun hd => posT_vl hn hd e f hV, cf, ?_, ?_⟩
  · intro i hi
    rcases id hw with ⟨hd, -⟩ | ⟨hd, hw'⟩
    · have hac := itM_ac (w := w) hn hV.1 i
      have hci := cf i
      have hVi := it_vld (w := w) hn i f hV
      have pa := hV.2.2 hd
      have pc : 0 < f.2.2 := by
        have := def_pos hd hV.1 pa (x := 0) (y := 1) (Or.inr (by decide))
        unfold evF at this
        omega
      have h1 := pos_bd hd hV.1 pa pc (x := (itM d w i f I2).1) (y := (itM d w i f I2).2.2.1) (n := (itF d w i f).1) (by rw [← hac]; rfl)
      have h3 := pos_bd hd hV.1 pa pc (x := (itM d w i f I2).2.1) (y := (itM d w i f I2).2.2.2) (n := (itF d w i f).2.2) (by rw [← hac]; rfl)
      have pi := hVi.2.2 hd
      have pci : 0 < (itF d w i f).2.2 := by
        have := def_pos hd hVi.1 pi (x := 0) (y := 1) (Or.inr (by decide))
        unfold evF at this
        omega
      have big : ∀ u v x : Int, 0 < u → 0 < v → u ≤ H → v ≤ H → x * x ≤ 4 * u * v → x.natAbs ≤ 16384 * H := by
        intro u v x u0 v0 hu hv hx
        refine abs_le_of_sq (Int.le_trans hx ?_)
        have q : u * v ≤ (H : Int) * H := Int.mul_le_mul hu hv (by omega) (by omega)
        have q2 : 4 * u * v = 4 * (u * v) := by grind
        have q3 : (((16384 * H : Nat) : Int)) * ((16384 * H : Nat) : Int) = 268435456 * ((H : Int) * H) := by
          have q5 : ((16384 * H : Nat) : Int) = 16384 * (H : Int) := by omega
          rw [q5]
          grind
        have q4 : 0 ≤ (H : Int) * H := Int.mul_nonneg (by omega) (by omega)
        rw [q2, q3]
        omega
      obtain ⟨o1, o2, o3⟩ := ho
      obtain ⟨i1, i2, i3⟩ := hci
      refine ⟨big _ _ _ pc pi (by omega) (by omega) h1.2.1, big _ _ _ pc pci (by omega) (by omega) h3.2.1, big _ _ _ pa pi (by omega) (by omega) h1.1, big _ _ _ pa pci (by omega) (by omega) h3.1⟩
    · have w1 : 1 ≤ w := by
        rcases Int.lt_or_le w 1 with z | z
        · exfalso
          have := hw'.1
          have : w = 0 := by omega
          subst this
          have := hw'.2.2
          omega
        · exact z
      obtain ⟨o1, o2, o3⟩ := ho
      obtain ⟨m, m1, m2⟩ := pK_far hn hd hw' hw4 16 f (4 * H) hV.1 (by omega) (by omega) (fun _ => by omega) (by omega)
      have hem : e ≤ m := by
        rcases Nat.lt_or_ge m e with z | z
        · have := trm_first e f e2 m z
          rw [m1] at this
          cases this
        · exact z
      have hp := pK_mono d w f (Nat.le_trans hi hem)
      obtain ⟨h1, h2, h3, h4⟩ := itM_pK d w f i
      refine ⟨by omega, by omega, by omega, by omega⟩
  · intro i
    have hD := it_d (w := w) hn i hV.1
    have k := k_le1 (d := d) (w := w) (nsq_3 hn hD)
    have c1 := (cf i).2.1
    have c2 := (cf (i + 1)).2.1
    rw [itF_succ] at c2
    show (nkE d w (itF d w i f).2.1 (itF d w i f).2.2).natAbs ≤ H
    omega
