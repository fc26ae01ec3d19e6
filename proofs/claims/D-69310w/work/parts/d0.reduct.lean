/-! every form comes to a reduced one, in few steps -/
theorem abs_sq (c : Int) : (c.natAbs : Int) * c.natAbs = c * c := Int.natAbs_mul_self' c
theorem abs_4 (c x : Int) : ((4 * c * x).natAbs : Int) = (c.natAbs : Int) * (4 * x.natAbs) := by
  rw [Int.natAbs_mul, Int.natAbs_mul]
  push_cast
  grind
theorem sq_abs {x C : Int} (h1 : -C ≤ x) (h2 : x ≤ C) : x * x ≤ C * C := by
  rw [← abs_sq x]
  exact sq_le (by omega) (by omega)
theorem nx_c {d w : Int} {f : Fm} (hD : dF f = d) (hc : f.2.2 ≠ 0) : (nx d w f).2.1 * (nx d w f).2.1 - 4 * f.2.2 * (nx d w f).2.2 = d := nx_d hD hc
theorem nx_c1 {d w : Int} {f : Fm} (hD : dF f = d) (hc : f.2.2 ≠ 0) : (((nx d w f).2.1 * (nx d w f).2.1 - d).natAbs : Int) = (f.2.2.natAbs : Int) * (4 * (nx d w f).2.2.natAbs) := by
  rw [← abs_4]
  have := nx_c (w := w) hD hc
  congr 2
  omega
/-- above 0, far from reduced: the last number falls to a fourth -/
theorem red1 {d w : Int} {f : Fm} (hd0 : 0 < d) (hw : isWd d w) (hD : dF f = d) (hc : f.2.2 ≠ 0) (hb : w < f.2.2.natAbs) : 4 * ((nx d w f).2.2.natAbs : Int) ≤ f.2.2.natAbs ∧ ((nx d w f).2.1.natAbs : Int) ≤ f.2.2.natAbs := by
  have h1 := nbE_in d w f.2.1 f.2.2 hc
  unfold hiE at h1
  rw [if_pos (Or.inr hb)] at h1
  have h2 : (nx d w f).2.1 = nbE d w f.2.1 f.2.2 := rfl
  rw [← h2] at h1
  have h3 := sq_abs (x := (nx d w f).2.1) (C := f.2.2.natAbs) (by omega) (by omega)
  have h4 : (w + 1) * (w + 1) ≤ (f.2.2.natAbs : Int) * f.2.2.natAbs := sq_le (by have := hw.1; omega) (by omega)
  have h5 := nx_c1 (w := w) hD hc
  have h6 := hw.2.2
  have h7 := sqn (nx d w f).2.1
  refine ⟨Int.le_of_mul_le_mul_left (a := (f.2.2.natAbs : Int)) ?_ (by omega), by omega⟩
  rw [← h5]
  omega
/-- above 0, near: reduced, or reduced next -/
theorem red2 {d w : Int} {f : Fm} (hd0 : 0 < d) (hw : isWd d w) (hD : dF f = d) (hc : f.2.2 ≠ 0) (hb : (f.2.2.natAbs : Int) ≤ w) : (2 * (f.2.2.natAbs : Int) ≤ w → rdF d w (nx d w f) = true) ∧ (w < 2 * (f.2.2.natAbs : Int) → 2 * ((nx d w f).2.2.natAbs : Int) ≤ w) := by
  have h1 := nbE_in d w f.2.1 f.2.2 hc
  unfold hiE at h1
  rw [if_neg (by omega)] at h1
  have h2 : (nx d w f).2.1 = nbE d w f.2.1 f.2.2 := rfl
  rw [← h2] at h1
  refine ⟨fun h => ?_, fun h => ?_⟩
  · unfold rdF rdB
    rw [if_pos hd0, decide_eq_true_eq]
    have h3 : (nx d w f).1 = f.2.2 := rfl
    rw [h3]
    omega
  · have h3 := sq_abs (x := (nx d w f).2.1) (C := w) (by omega) (by omega)
    have h5 := nx_c1 (w := w) hD hc
    obtain ⟨w0, w1, w2⟩ := hw
    rcases Int.lt_or_le w (2 * ((nx d w f).2.2.natAbs : Int)) with g | g
    · exfalso
      have h4 : (w + 1) * (w + 1) ≤ (2 * (f.2.2.natAbs : Int)) * (2 * ((nx d w f).2.2.natAbs : Int)) := Int.mul_le_mul (by omega) (by omega) (by omega) (by omega)
      have h6 : (2 * (f.2.2.natAbs : Int)) * (2 * ((nx d w f).2.2.natAbs : Int)) = (f.2.2.natAbs : Int) * (4 * ((nx d w f).2.2.natAbs : Int)) := by grind
      have h7 := sqn (nx d w f).2.1
      omega
    · exact g
theorem near_red {d w : Int} (hn : nsq d) {f : Fm} (hd0 : 0 < d) (hw : isWd d w) (hD : dF f = d) (hb : (f.2.2.natAbs : Int) ≤ w) : ∃ m, m ≤ 2 ∧ rdF d w (itF d w m f) = true := by
  obtain ⟨a1, a2⟩ := red2 hd0 hw hD (nsq_3 hn hD) hb
  rcases Int.lt_or_le w (2 * (f.2.2.natAbs : Int)) with g | g
  · have e := a2 g
    have D2 := nx_d (w := w) hD (nsq_3 hn hD)
    exact ⟨2, by omega, (red2 hd0 hw D2 (nsq_3 hn D2) (by omega)).1 e⟩
  · exact ⟨1, by omega, a1 g⟩
theorem pos_red {d w : Int} (hn : nsq d) (hd0 : 0 < d) (hw : isWd d w) : ∀ (s : Nat) (f : Fm), dF f = d → (f.2.2.natAbs : Int) ≤ w * 4 ^ s → ∃ m, m ≤ s + 2 ∧ rdF d w (itF d w m f) = true
  | 0, f, hD, hb => by
    obtain ⟨m, m1, m2⟩ := near_red hn hd0 hw hD (by simpa using hb)
    exact ⟨m, by omega, m2⟩
  | s + 1, f, hD, hb => by
    rcases Int.lt_or_le w (f.2.2.natAbs : Int) with g | g
    · have r := red1 hd0 hw hD (nsq_3 hn hD) g
      obtain ⟨m, m1, m2⟩ := pos_red hn hd0 hw s (nx d w f) (nx_d hD (nsq_3 hn hD)) (by
        have : w * 4 ^ (s + 1) = 4 * (w * 4 ^ s) := by rw [Int.pow_succ]; grind
        omega)
      exact ⟨m + 1, by omega, m2⟩
    · obtain ⟨m, m1, m2⟩ := near_red hn hd0 hw hD g
      exact ⟨m, by omega, m2⟩
/-- below 0: a form's step -/
theorem neg_nx {d w : Int} {f : Fm} (hd0 : d < 0) (hD : dF f = d) (ha : 0 < f.1) : 0 < f.2.2 ∧ 0 < (nx d w f).2.2 ∧ (-f.2.2 < (nx d w f).2.1 ∧ (nx d w f).2.1 ≤ f.2.2) ∧ (nx d w f).2.1 * (nx d w f).2.1 - 4 * f.2.2 * (nx d w f).2.2 = d := by
  have hc : 0 < f.2.2 := by
    have := def_pos hd0 hD ha (x := 0) (y := 1) (Or.inr (by decide))
    unfold evF at this
    omega
  have h1 := nbE_in d w f.2.1 f.2.2 (by omega)
  unfold hiE at h1
  rw [if_pos (Or.inl hd0)] at h1
  have h2 : (nx d w f).2.1 = nbE d w f.2.1 f.2.2 := rfl
  rw [← h2] at h1
  have hc2 : 0 < (nx d w f).2.2 := by
    have := def_pos hd0 (nx_d (w := w) hD (by omega)) (show 0 < (nx d w f).1 from hc) (x := 0) (y := 1) (Or.inr (by decide))
    unfold evF at this
    omega
  exact ⟨hc, hc2, by omega, nx_c hD (by omega)⟩
theorem rdN_of {d w a b c : Int} (hd0 : d < 0) (ha : 0 < a) (h1 : -a < b) (h2 : b ≤ a) (h3 : a ≤ c) (h4 : a = c → 0 ≤ b) : rdF d w (a, b, c) = true := by
  unfold rdF rdB
  rw [if_neg (by omega), decide_eq_true_eq]
  simp only
  refine ⟨by omega, by omega, ?_⟩
  by_cases g : 0 ≤ b
  · exact Or.inl g
  · exact Or.inr ⟨by omega, fun e => g (h4 (by omega))⟩
/-- below 0, near: reduced, or next, or the one after -/
theorem near_redN {d w : Int} {f : Fm} (hd0 : d < 0) (hD : dF f = d) (ha : 0 < f.1) (h1 : -f.1 < f.2.1) (h2 : f.2.1 ≤ f.1) (h3 : f.1 * f.1 ≤ -d) : ∃ m, m ≤ 2 ∧ rdF d w (itF d w m f) = true := by
  obtain ⟨hc, hc', ⟨b1, b2⟩, hD'⟩ := neg_nx (w := w) hd0 hD ha
  have e1 : f = (f.1, f.2.1, f.2.2) := rfl
  -- equal ends, middle below 0
  have same : ∀ g : Fm, dF g = d → 0 < g.1 → -g.1 < g.2.1 → g.2.1 < 0 → g.2.2 = g.1 → rdF d w (nx d w g) = true := by
    intro g gD g1 g2 g3 g4
    obtain ⟨k1, k2, ⟨k3, k4⟩, k5⟩ := neg_nx (w := w) hd0 gD g1
    have hk := nk_eq (d := d) (w := w) (b := g.2.1) (c := g.2.2) (by omega)
    have hk2 : (nx d w g).2.1 = nbE d w g.2.1 g.2.2 := rfl
    rw [← hk2, g4] at hk
    rw [g4] at k3 k4 k5
    have kz : nkE d w g.2.1 g.1 = 0 := by
      generalize nkE d w g.2.1 g.1 = k at hk
      rcases Int.lt_trichotomy k 0 with z | z | z
      · have : g.1 * 1 ≤ g.1 * (-k) := Int.mul_le_mul_of_nonneg_left (by omega) (by omega)
        have e2 : 2 * g.1 * k = -(2 * (g.1 * (-k))) := by grind
        omega
      · exact z
      · have : g.1 * 1 ≤ g.1 * k := Int.mul_le_mul_of_nonneg_left (by omega) (by omega)
        have e2 : 2 * g.1 * k = 2 * (g.1 * k) := by grind
        omega
    rw [kz] at hk
    have eb : (nx d w g).2.1 = -g.2.1 := by omega
    have ec : (nx d w g).2.2 = g.1 := by
      rw [eb] at k5
      have hD2 : g.2.1 * g.2.1 - 4 * g.1 * g.2.2 = d := gD
      rw [g4] at hD2
      have : 4 * g.1 * ((nx d w g).2.2 - g.1) = 0 := by grind
      rcases Int.mul_eq_zero.1 this with z | z <;> omega
    have e3 : nx d w g = (g.2.2, (nx d w g).2.1, (nx d w g).2.2) := rfl
    rw [e3]
    exact rdN_of hd0 (by omega) (by omega) (by omega) (by omega) (by omega)
  rcases Int.lt_trichotomy f.1 f.2.2 with g | g | g
  · exact ⟨0, by omega, by rw [show itF d w 0 f = f from rfl, e1]; exact rdN_of hd0 ha h1 h2 (by omega) (by omega)⟩
  · by_cases z : 0 ≤ f.2.1
    · exact ⟨0, by omega, by rw [show itF d w 0 f = f from rfl, e1]; exact rdN_of hd0 ha h1 h2 (by omega) (by omega)⟩
    · exact ⟨1, by omega, same f hD ha h1 (by omega) g.symm⟩
  · have hk := nk_eq (d := d) (w := w) (b := f.2.1) (c := f.2.2) (by omega)
    have hx := nx_ac (w := w) hD (by omega)
    have hk2 : (nx d w f).2.1 = nbE d w f.2.1 f.2.2 := rfl
    rw [← hk2] at hk
    have hx3 : (nx d w f).2.2 = f.1 - f.2.1 * nkE d w f.2.1 f.2.2 + f.2.2 * (nkE d w f.2.1 f.2.2 * nkE d w f.2.1 f.2.2) := by
      rw [hx]
      unfold acF
      simp only
      grind
    generalize nkE d w f.2.1 f.2.2 = k at hk hx3
    have hDf : f.2.1 * f.2.1 - 4 * f.1 * f.2.2 = d := hD
    have bb : f.2.1 * f.2.1 ≤ (2 * f.2.2) * (2 * f.2.2) := by
      have := sqn (f.1 - 2 * f.2.2)
      have e2 : (f.1 - 2 * f.2.2) * (f.1 - 2 * f.2.2) = f.1 * f.1 - 4 * f.1 * f.2.2 + (2 * f.2.2) * (2 * f.2.2) := by grind
      omega
    have b5 : f.2.1 ≤ 2 * f.2.2 := le_of_sq (by omega) bb
    have b6 : -f.2.1 ≤ 2 * f.2.2 := le_of_sq (by omega) (by rw [Int.neg_mul_neg]; exact bb)
    have kb : -1 ≤ k ∧ k ≤ 1 := by
      constructor
      · rcases Int.lt_or_le k (-1) with z | z
        · have : f.2.2 * 2 ≤ f.2.2 * (-k) := Int.mul_le_mul_of_nonneg_left (by omega) (by omega)
          have e2 : 2 * f.2.2 * k = -(2 * (f.2.2 * (-k))) := by grind
          omega
        · exact z
      · rcases Int.lt_or_le 1 k with z | z
        · have : f.2.2 * 2 ≤ f.2.2 * k := Int.mul_le_mul_of_nonneg_left (by omega) (by omega)
          have e2 : 2 * f.2.2 * k = 2 * (f.2.2 * k) := by grind
          omega
        · exact z
    have c5 : f.2.2 ≤ (nx d w f).2.2 := by
      have : k = -1 ∨ k = 0 ∨ k = 1 := by omega
      rcases this with rfl | rfl | rfl <;> omega
    have e3 : nx d w f = (f.2.2, (nx d w f).2.1, (nx d w f).2.2) := rfl
    by_cases z : f.2.2 = (nx d w f).2.2 ∧ (nx d w f).2.1 < 0
    · exact ⟨2, by omega, same (nx d w f) (nx_d hD (by omega)) hc b1 z.2 z.1.symm⟩
    · refine ⟨1, by omega, ?_⟩
      show rdF d w (nx d w f) = true
      rw [e3]
      exact rdN_of hd0 hc b1 b2 c5 (fun e => by omega)
theorem neg_red {d w : Int} (hd0 : d < 0) : ∀ (s : Nat) (f : Fm), dF f = d → 0 < f.1 → f.2.2 ≤ 2 ^ s → ∃ m, m ≤ s + 3 ∧ rdF d w (itF d w m f) = true
  | 0, f, hD, ha, hb => by
    obtain ⟨hc, hc', ⟨b1, b2⟩, hD'⟩ := neg_nx (w := w) hd0 hD ha
    have : f.2.2 = 1 := by
      have : (2 : Int) ^ 0 = 1 := rfl
      omega
    obtain ⟨m, m1, m2⟩ := near_redN (w := w) hd0 (nx_d (w := w) hD (by omega)) (show 0 < (nx d w f).1 from hc) (show -(nx d w f).1 < (nx d w f).2.1 from b1) (show (nx d w f).2.1 ≤ (nx d w f).1 from b2) (by
      show f.2.2 * f.2.2 ≤ -d
      rw [this]
      omega)
    exact ⟨m + 1, by omega, m2⟩
  | s + 1, f, hD, ha, hb => by
    obtain ⟨hc, hc', ⟨b1, b2⟩, hD'⟩ := neg_nx (w := w) hd0 hD ha
    rcases Int.lt_or_le (-d) (f.2.2 * f.2.2) with g | g
    · obtain ⟨m, m1, m2⟩ := neg_red hd0 s (nx d w f) (nx_d hD (by omega)) hc (by
        have h3 := sq_abs (x := (nx d w f).2.1) (C := f.2.2) (by omega) (by omega)
        have : f.2.2 * (2 * (nx d w f).2.2) ≤ f.2.2 * f.2.2 := by
          have e2 : 4 * f.2.2 * (nx d w f).2.2 = 2 * (f.2.2 * (2 * (nx d w f).2.2)) := by grind
          omega
        have := Int.le_of_mul_le_mul_left this hc
        have e4 : (2 : Int) ^ (s + 1) = 2 * 2 ^ s := by rw [Int.pow_succ]; omega
        omega)
      exact ⟨m + 1, by omega, m2⟩
    · obtain ⟨m, m1, m2⟩ := near_redN (w := w) hd0 (nx_d (w := w) hD (by omega)) (show 0 < (nx d w f).1 from hc) (show -(nx d w f).1 < (nx d w f).2.1 from b1) (show (nx d w f).2.1 ≤ (nx d w f).1 from b2) g
      exact ⟨m + 1, by omega, m2⟩
/-- the numbers stay small -/
theorem ok_nx {d w : Int} (hn : nsq d) (hdb : -1048576 ≤ d ∧ d ≤ 1048576) (hw : wdP d w) (hw4 : w ≤ 1024) {f : Fm} (hV : Vld d f) (ho : okF f) : okF (nx d w f) := by
  obtain ⟨o1, o2, o3, o4⟩ := ho
  have D2 := nx_d (w := w) hV.1 o4
  have h0 := nsq_3 hn D2
  have e1 : (nx d w f).1 = f.2.2 := rfl
  rcases hw with ⟨hd, rfl⟩ | ⟨hd, hw⟩
  · obtain ⟨hc, hc', ⟨b1, b2⟩, hD'⟩ := neg_nx (w := -1) hd hV.1 (hV.2.2 hd)
    have h3 := sq_abs (x := (nx d (-1) f).2.1) (C := f.2.2) (by omega) (by omega)
    refine ⟨by rw [e1]; omega, by omega, ⟨by omega, ?_⟩, h0⟩
    have : f.2.2 * (4 * (nx d (-1) f).2.2) ≤ f.2.2 * (f.2.2 + 1048576) := by
      have e2 : 4 * f.2.2 * (nx d (-1) f).2.2 = f.2.2 * (4 * (nx d (-1) f).2.2) := by grind
      rw [Int.mul_add]
      have : 1048576 * 1 ≤ 1048576 * f.2.2 := by omega
      omega
    have := Int.le_of_mul_le_mul_left this hc
    omega
  · have h5 := nx_c1 (w := w) hV.1 o4
    rcases Int.lt_or_le w (f.2.2.natAbs : Int) with g | g
    · have r := red1 hd hw hV.1 o4 g
      exact ⟨by rw [e1]; omega, by omega, by omega, h0⟩
    · have h1 := nbE_in d w f.2.1 f.2.2 o4
      unfold hiE at h1
      rw [if_neg (by omega)] at h1
      have h2 : (nx d w f).2.1 = nbE d w f.2.1 f.2.2 := rfl
      rw [← h2] at h1
      have h3 := sq_abs (x := (nx d w f).2.1) (C := w) (by omega) (by omega)
      have h4 := hw.2.1
      have h7 := sqn (nx d w f).2.1
      have : 1 * (4 * ((nx d w f).2.2.natAbs : Int)) ≤ (f.2.2.natAbs : Int) * (4 * (nx d w f).2.2.natAbs) := Int.mul_le_mul_of_nonneg_right (by omega) (by omega)
      exact ⟨by rw [e1]; omega, by omega, by omega, h0⟩
theorem nx_vld {d w : Int} (hn : nsq d) {f : Fm} (hV : Vld d f) : Vld d (nx d w f) := vld_eqv (nx_eqv hV.1 (nsq_3 hn hV.1)) hV
theorem it_vld {d w : Int} (hn : nsq d) : ∀ (m : Nat) (f : Fm), Vld d f → Vld d (itF d w m f)
  | 0, _, h => h
  | m + 1, f, h => it_vld hn m (nx d w f) (nx_vld hn h)
theorem it_ok {d w : Int} (hn : nsq d) (hdb : -1048576 ≤ d ∧ d ≤ 1048576) (hw : wdP d w) (hw4 : w ≤ 1024) : ∀ (m : Nat) (f : Fm), Vld d f → okF f → okF (itF d w m f)
  | 0, _, _, h => h
  | m + 1, f, hV, h => it_ok hn hdb hw hw4 m (nx d w f) (nx_vld hn hV) (ok_nx hn hdb hw hw4 hV h)
theorem trm_of {d w : Int} (hn : nsq d) (hdb : -1048576 ≤ d ∧ d ≤ 1048576) (hw : wdP d w) (hw4 : w ≤ 1024) : ∀ (m : Nat) (f : Fm), Vld d f → okF f → rdF d w (itF d w m f) = true → ∃ k, k ≤ m ∧ trm d w k f
  | 0, f, _, h, hr => ⟨0, Nat.le_refl _, h, hr⟩
  | m + 1, f, hV, h, hr => by
    cases g : rdF d w f with
    | true => exact ⟨0, Nat.zero_le _, h, g⟩
    | false =>
      obtain ⟨k, k1, k2⟩ := trm_of hn hdb hw hw4 m (nx d w f) (nx_vld hn hV) (ok_nx hn hdb hw hw4 hV h) hr
      exact ⟨k + 1, by omega, ⟨h, g⟩, k2⟩
theorem trm_rd {d w : Int} : ∀ (m : Nat) (f : Fm), trm d w m f → okF (itF d w m f) ∧ rdF d w (itF d w m f) = true
  | 0, _, h => h
  | m + 1, f, h => trm_rd m (nx d w f) h.2
/-- EVERY FORM COMES TO A REDUCED ONE -/
theorem come_red {d w : Int} (hn : nsq d) (hw : wdP d w) {f : Fm} (hV : Vld d f) : ∃ m, rdF d w (itF d w m f) = true := by
  have hb : ∀ x : Nat, ∃ s : Nat, x ≤ 2 ^ s := fun x => ⟨x, Nat.le_of_lt Nat.lt_two_pow_self⟩
  obtain ⟨s, hs⟩ := hb f.2.2.natAbs
  have hs' : (f.2.2.natAbs : Int) ≤ 2 ^ s := by
    have : ((2 ^ s : Nat) : Int) = 2 ^ s := by push_cast; rfl
    omega
  rcases hw with ⟨hd, rfl⟩ | ⟨hd, hw⟩
  · obtain ⟨m, -, m2⟩ := neg_red (w := -1) hd s f hV.1 (hV.2.2 hd) (by omega)
    exact ⟨m, m2⟩
  · have w1 : 1 ≤ w := by
      rcases Int.lt_or_le w 1 with z | z
      · exfalso
        have := hw.1
        have : w = 0 := by omega
        subst this
        have := hw.2.2
        omega
      · exact z
    obtain ⟨m, -, m2⟩ := pos_red hn hd hw s f hV.1 (by
      have e1 : (2 : Int) ^ s ≤ 4 ^ s := by
        have : (2 : Nat) ^ s ≤ 4 ^ s := Nat.pow_le_pow_left (by decide) s
        have a1 : ((2 ^ s : Nat) : Int) = 2 ^ s := by push_cast; rfl
        have a2 : ((4 ^ s : Nat) : Int) = 4 ^ s := by push_cast; rfl
        omega
      have e2 : 1 * (4 : Int) ^ s ≤ w * 4 ^ s := Int.mul_le_mul_of_nonneg_right w1 (Int.pow_nonneg (by decide))
      omega)
    exact ⟨m, m2⟩
/-- a small form comes to a reduced one in at most 34 steps -/
theorem come_trm {d w : Int} (hn : nsq d) (hdb : -1048576 ≤ d ∧ d ≤ 1048576) (hw : wdP d w) (hw4 : w ≤ 1024) {f : Fm} (hV : Vld d f) (ho : okF f) : ∃ m, m ≤ 34 ∧ trm d w m f := by
  have o3 := ho.2.2.1
  have key : ∃ m, m ≤ 34 ∧ rdF d w (itF d w m f) = true := by
    rcases id hw with ⟨hd, rfl⟩ | ⟨hd, hw'⟩
    · obtain ⟨m, m1, m2⟩ := neg_red (w := -1) hd 31 f hV.1 (hV.2.2 hd) (by omega)
      exact ⟨m, m1, m2⟩
    · have w1 : 1 ≤ w := by
        rcases Int.lt_or_le w 1 with z | z
        · exfalso
          have := hw'.1
          have : w = 0 := by omega
          subst this
          have := hw'.2.2
          omega
        · exact z
      obtain ⟨m, m1, m2⟩ := pos_red hn hd hw' 16 f hV.1 (by omega)
      exact ⟨m, by omega, m2⟩
  obtain ⟨m, m1, m2⟩ := key
  obtain ⟨k, k1, k2⟩ := trm_of hn hdb hw hw4 m f hV ho m2
  exact ⟨k, by omega, k2⟩
