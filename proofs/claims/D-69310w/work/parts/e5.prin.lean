/-! the principal ring; forms with other signs -/
def ngF (f : Fm) : Fm := (-f.1, f.2.1, -f.2.2)
def ngM (m : mxI) : mxI := (m.1, -m.2.1, -m.2.2.1, m.2.2.2)
theorem ng_ng (f : Fm) : ngF (ngF f) = f := by
  obtain ⟨a, b, c⟩ := f
  simp [ngF]
theorem ngM_mm (a b : mxI) : mm (ngM a) (ngM b) = ngM (mm a b) := by
  refine mx_ext ?_ ?_ ?_ ?_ <;> (simp only [mm, ngM]; grind)
theorem nbE_neg (d w b c : Int) : nbE d w b (-c) = nbE d w b c := by
  unfold nbE hiE
  rw [Int.natAbs_neg]
theorem nkE_neg (d w b c : Int) : nkE d w b (-c) = -nkE d w b c := by
  unfold nkE
  rw [nbE_neg, show 2 * -c = -(2 * c) by omega, Int.tdiv_neg]
theorem ncE_neg (d w b c : Int) : ncE d w b (-c) = -ncE d w b c := by
  unfold ncE
  rw [nbE_neg, show 4 * -c = -(4 * c) by omega, Int.tdiv_neg]
theorem nx_neg (d w : Int) (f : Fm) : nx d w (ngF f) = ngF (nx d w f) := by
  unfold nx ngF
  simp only
  rw [nbE_neg, ncE_neg]
theorem itF_neg (d w : Int) : ∀ (n : Nat) (f : Fm), itF d w n (ngF f) = ngF (itF d w n f)
  | 0, _ => rfl
  | n + 1, f => by
    show itF d w n (nx d w (ngF f)) = ngF (itF d w n (nx d w f))
    rw [nx_neg, itF_neg d w n]
theorem itM_neg (d w : Int) (f : Fm) : ∀ n : Nat, ∃ e : Int, (e = 1 ∨ e = -1) ∧ itM d w n (ngF f) I2 = sgM e (ngM (itM d w n f I2))
  | 0 => ⟨1, Or.inl rfl, by rw [sgM_one]; rfl⟩
  | n + 1 => by
    obtain ⟨e, he, h⟩ := itM_neg d w f n
    refine ⟨-e, by omega, ?_⟩
    rw [itM_suc, itM_suc, stM_mm, stM_mm, h, ← ngM_mm, sgM_mm]
    have hk : tnF d w (ngF f) n = -tnF d w f n := by
      unfold tnF
      rw [itF_neg]
      show nkE d w (itF d w n f).2.1 (-(itF d w n f).2.2) = _
      rw [nkE_neg]
    rw [hk]
    refine mx_ext ?_ ?_ ?_ ?_ <;> (simp only [sgM, mm, sM, ngM]; grind)
theorem dF_ng (f : Fm) : dF (ngF f) = dF f := by
  simp only [dF, ngF]; grind
theorem red_ng {f : Fm} (h : Red f) : Red (ngF f) := by
  obtain ⟨h1, h2, h3, h4⟩ := h
  refine ⟨?_, h2, ?_, ?_⟩
  · show -f.1 * -f.2.2 < 0
    rw [Int.neg_mul_neg]
    exact h1
  · show -f.1 + -f.2.2 < f.2.1
    omega
  · show -(-f.1 + -f.2.2) < f.2.1
    omega
section
theorem d5 {d w : Int} (hn : nsq d) (hdd : isDd d) (hd0 : 0 < d) (hw : isWd d w) : 5 ≤ d ∧ 2 ≤ w := by
  have h5 : 5 ≤ d := by
    unfold isDd at hdd
    have h1 := hn 1
    have h2 := hn 2
    omega
  refine ⟨h5, ?_⟩
  obtain ⟨w0, w1, w2⟩ := hw
  rcases Int.lt_or_le w 2 with z | z
  · have : w = 0 ∨ w = 1 := by omega
    rcases this with rfl | rfl <;> omega
  · exact z
theorem uF_facts {d w : Int} (hn : nsq d) (hdd : isDd d) (hd0 : 0 < d) (hw : isWd d w) : 0 < uF d w ∧ uF d w ≤ w ∧ w < 2 + uF d w ∧ uF d w % 2 = d % 2 := by
  have h5 := d5 hn hdd hd0 hw
  unfold uF
  have e : (w - d).tmod 2 = 0 ↔ (w - d) % 2 = 0 := by
    constructor
    · intro h
      exact Int.emod_eq_zero_of_dvd (Int.dvd_of_tmod_eq_zero h)
    · intro h
      exact Int.tmod_eq_zero_of_dvd (Int.dvd_of_emod_eq_zero h)
  by_cases c : (w - d).tmod 2 = 0
  · rw [if_pos c]
    have := e.1 c
    omega
  · rw [if_neg c]
    have : ¬ (w - d) % 2 = 0 := fun z => c (e.2 z)
    omega
theorem frF_eq {d w : Int} (hn : nsq d) (hdd : isDd d) (hd0 : 0 < d) (hw : isWd d w) : frF d w = (1, uF d w, (uF d w * uF d w - d).tdiv 4) := rfl
theorem frF_d {d w : Int} (hn : nsq d) (hdd : isDd d) (hd0 : 0 < d) (hw : isWd d w) : dF (frF d w) = d := by
  have h := (uF_facts hn hdd hd0 hw).2.2.2
  have h4 := bN_4 (b := uF d w) hdd h
  unfold bN at h4
  rw [frF_eq hn hdd hd0 hw]
  show uF d w * uF d w - 4 * 1 * (uF d w * uF d w - d).tdiv 4 = d
  omega
theorem frF_vld {d w : Int} (hn : nsq d) (hdd : isDd d) (hd0 : 0 < d) (hw : isWd d w) : Vld d (frF d w) := ⟨frF_d hn hdd hd0 hw, ⟨1, 0, 0, by rw [frF_eq hn hdd hd0 hw]; show 1 * 1 + 0 * _ + 0 * _ = (1 : Int); omega⟩, fun z => by omega⟩
theorem frF_red {d w : Int} (hn : nsq d) (hdd : isDd d) (hd0 : 0 < d) (hw : isWd d w) : Red (frF d w) := by
  rw [← rdF_red hn hd0 hw (frF_d hn hdd hd0 hw)]
  obtain ⟨h1, h2, h3, h4⟩ := uF_facts hn hdd hd0 hw
  have h5 := d5 hn hdd hd0 hw
  rw [frF_eq hn hdd hd0 hw]
  unfold rdF rdB
  rw [if_pos hd0, decide_eq_true_eq]
  show 0 < uF d w ∧ uF d w ≤ w ∧ w < 2 * ((1 : Int).natAbs : Int) + uF d w ∧ 2 * ((1 : Int).natAbs : Int) - uF d w ≤ w
  have e : ((1 : Int).natAbs : Int) = 1 := rfl
  rw [e]
  omega
/-- a reduced form with 1 at an end has the same middle number -/
theorem one_mid {d w : Int} (hn : nsq d) (hdd : isDd d) (hd0 : 0 < d) (hw : isWd d w) {g : Fm} (hD : dF g = d) (hr : Red g) (h : g.1.natAbs = 1 ∨ g.2.2.natAbs = 1) : g.2.1 = uF d w := by
  obtain ⟨f1, f2, f3, f4⟩ := uF_facts hn hdd hd0 hw
  have hp : g.2.1 % 2 = d % 2 := sq_parI (a := g.1) (c := g.2.2) hD
  have h1 : w < 2 + g.2.1 ∧ g.2.1 ≤ w := by
    rcases h with z | z
    · have := red_bd hn hd0 hw hD hr
      omega
    · have := red_c hn hd0 hw hD hr
      omega
  omega
/-- a reduced form with first number 1 or -1 -/
theorem one_form {d w : Int} (hn : nsq d) (hdd : isDd d) (hd0 : 0 < d) (hw : isWd d w) {g : Fm} (hD : dF g = d) (hr : Red g) : (g.1 = 1 → g = frF d w) ∧ (g.1 = -1 → g = ngF (frF d w)) := by
  have h4 := frF_d hn hdd hd0 hw
  rw [frF_eq hn hdd hd0 hw] at h4 ⊢
  have h4' : uF d w * uF d w - 4 * 1 * (uF d w * uF d w - d).tdiv 4 = d := h4
  generalize (uF d w * uF d w - d).tdiv 4 = C at h4' ⊢
  obtain ⟨a, b, c⟩ := g
  have hD' : b * b - 4 * a * c = d := hD
  refine ⟨fun z => ?_, fun z => ?_⟩
  · have z' : a = 1 := z
    subst z'
    have hb : b = uF d w := one_mid hn hdd hd0 hw hD hr (Or.inl rfl)
    subst hb
    have : c = C := by omega
    rw [this]
  · have z' : a = -1 := z
    subst z'
    have hb : b = uF d w := one_mid hn hdd hd0 hw hD hr (Or.inl rfl)
    subst hb
    have : c = -C := by omega
    rw [this]
    rfl
theorem sgn_alt {d w : Int} (hn : nsq d) (hdd : isDd d) (hd0 : 0 < d) (hw : isWd d w) : ∀ n : Nat, (n % 2 = 0 → 0 < (itF d w n (frF d w)).1) ∧ (n % 2 = 1 → (itF d w n (frF d w)).1 < 0)
  | 0 => ⟨fun _ => by show (0 : Int) < 1; decide, fun z => by omega⟩
  | n + 1 => by
    obtain ⟨h1, h2⟩ := sgn_alt hn hdd hd0 hw n
    obtain ⟨D, R⟩ := itF_red hn hd0 hw n _ (frF_d hn hdd hd0 hw) (frF_red hn hdd hd0 hw)
    rw [itF_succ]
    have e : (nx d w (itF d w n (frF d w))).1 = (itF d w n (frF d w)).2.2 := rfl
    rw [e]
    rcases red_sign R with z | z
    · exact ⟨fun y => by have := h2 (by omega); omega, fun _ => z.2⟩
    · exact ⟨fun _ => z.2, fun y => by have := h1 (by omega); omega⟩
/-- where the first one comes again -/
theorem nu_ex {d w : Int} (hn : nsq d) (hdd : isDd d) (hd0 : 0 < d) (hw : isWd d w) : ∃ m : Nat, 0 < m ∧ (itF d w m (frF d w)).1.natAbs = 1 ∧ (∀ i, 0 < i → i < m → (itF d w i (frF d w)).1.natAbs ≠ 1) := by
  obtain ⟨N, N1, N2, N3⟩ := rn_ex hn hd0 hw (frF_d hn hdd hd0 hw) (frF_red hn hdd hd0 hw)
  obtain ⟨m, m1, ⟨m2, m3⟩, m4⟩ := least_of (P := fun m => 0 < m ∧ (itF d w m (frF d w)).1.natAbs = 1) N ⟨N1, by rw [N2]; rfl⟩
  exact ⟨m, m2, m3, fun i i1 i2 z => m4 i i2 ⟨i1, z⟩⟩
end
