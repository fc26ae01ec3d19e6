/-! a family: the house's matrices and the model's rows give one orbit -/
theorem pw_conj {V W M : mxI} (h : mm V M = mm M W) : ∀ n, mm (pwM V n) M = mm M (pwM W n)
  | 0 => by rw [show pwM V 0 = I2 from rfl, show pwM W 0 = I2 from rfl, one_mm, mm_one]
  | n + 1 => by
    show mm (mm V (pwM V n)) M = mm M (mm W (pwM W n))
    rw [mm_assoc, pw_conj h n, ← mm_assoc, h, mm_assoc]
theorem iv_conj {V W M : mxI} (hV : dM V = 1) (hW : dM W = 1) (h : mm V M = mm M W) : mm (ivM V) M = mm M (ivM W) := by
  have : mm (ivM V) (mm (mm V M) (ivM W)) = mm (ivM V) (mm (mm M W) (ivM W)) := by rw [h]
  rw [mm_assoc V, ← mm_assoc (ivM V), iv_mm hV, one_mm, mm_assoc M, mm_iv hW, mm_one] at this
  exact this.symm
theorem zp_conj {V W M : mxI} (hV : dM V = 1) (hW : dM W = 1) (h : mm V M = mm M W) (j : Int) : mm (zpM V j) M = mm M (zpM W j) := by
  unfold zpM
  split
  · exact pw_conj h _
  · exact pw_conj (iv_conj hV hW h) _
theorem pw_sg {e : Int} (he : e = 1 ∨ e = -1) (m : mxI) : ∀ n, ∃ e' : Int, (e' = 1 ∨ e' = -1) ∧ pwM (sgM e m) n = sgM e' (pwM m n)
  | 0 => ⟨1, Or.inl rfl, (sgM_one _).symm⟩
  | n + 1 => by
    obtain ⟨e', he', h⟩ := pw_sg he m n
    refine ⟨e * e', by rcases he with rfl | rfl <;> rcases he' with rfl | rfl <;> simp, ?_⟩
    show mm (sgM e m) (pwM (sgM e m) n) = sgM (e * e') (mm m (pwM m n))
    rw [h, sgM_mm, mm_sgM, sgM_sgM]
theorem iv_sg (e : Int) (m : mxI) : ivM (sgM e m) = sgM e (ivM m) := by
  refine mx_ext ?_ ?_ ?_ ?_ <;> (simp only [sgM, ivM]; try grind)
theorem zp_sg {e : Int} (he : e = 1 ∨ e = -1) (m : mxI) (j : Int) : ∃ e' : Int, (e' = 1 ∨ e' = -1) ∧ zpM (sgM e m) j = sgM e' (zpM m j) := by
  unfold zpM
  split
  · exact pw_sg he m _
  · rw [iv_sg]
    exact pw_sg he (ivM m) _
/-- the trial's own numbers -/
theorem itK_mat (d w : Int) : ∀ (n : Nat) (f : Fm) (m : mxI), itK d w n f (m.2.2.1, m.2.2.2) = ((itM d w n f m).2.2.1, (itM d w n f m).2.2.2)
  | 0, _, _ => rfl
  | n + 1, f, m => by
    show itK d w n (nx d w f) (m.2.2.2, nkE d w f.2.1 f.2.2 * m.2.2.2 - m.2.2.1) = ((itM d w n (nx d w f) (stM (nkE d w f.2.1 f.2.2) m)).2.2.1, (itM d w n (nx d w f) (stM (nkE d w f.2.1 f.2.2) m)).2.2.2)
    rw [← itK_mat d w n (nx d w f) (stM (nkE d w f.2.1 f.2.2) m)]
    congr 1
    show (m.2.2.2, nkE d w f.2.1 f.2.2 * m.2.2.2 - m.2.2.1) = (m.2.2.2, m.2.2.2 * nkE d w f.2.1 f.2.2 - m.2.2.1)
    rw [Int.mul_comm]
def xyT (d w : Int) (f : Fm) (L : Nat) : xI := ((itM d w L f I2).2.2.2, -(itM d w L f I2).2.2.1)
theorem rcT_eq (d w g m : Int) (b : Int) (L : Nat) : rcT d w g m b L = (g, b, (itF d w L (frmO d m b)).1, (itF d w L (frmO d m b)).2.1, (xyT d w (frmO d m b) L).1, (xyT d w (frmO d m b) L).2) := by
  have h := itK_mat d w L (frmO d m b) I2
  have h' : itK d w L (frmO d m b) (0, 1) = ((itM d w L (frmO d m b) I2).2.2.1, (itM d w L (frmO d m b) I2).2.2.2) := h
  unfold rcT
  rw [h']
  rfl
theorem xyT_mv (d w : Int) (f : Fm) (L : Nat) : mv (itM d w L f I2) (xyT d w f L) = (1, 0) := by
  have h := itM_det (d := d) (w := w) f L
  unfold xyT
  generalize itM d w L f I2 = m at *
  unfold dM at h
  refine Prod.ext ?_ ?_ <;> (simp only [mv]; grind)
theorem xyT_ev {d w : Int} (hn : nsq d) {f : Fm} (hD : dF f = d) (L : Nat) : evF (itF d w L f) (xyT d w f L).1 (xyT d w f L).2 = f.1 := by
  rw [← itM_ac (w := w) hn hD L, evM, xyT_mv]
  unfold evF
  grind
theorem ev_scale (f : Fm) (g x y : Int) : evF f (x * g) (y * g) = evF f x y * (g * g) := by
  unfold evF
  grind
theorem au_ev {f : Fm} {d t u : Int} (hD : dF f = d) (h : t * t - d * (u * u) = 4) (z : xI) : evF f (mv (auM f t u) z).1 (mv (auM f t u) z).2 = evF f z.1 z.2 := by
  rw [← evM, auM_ac hD h]
theorem auiv_ev {f : Fm} {d t u : Int} (hD : dF f = d) (h : t * t - d * (u * u) = 4) (z : xI) : evF f (mv (ivM (auM f t u)) z).1 (mv (ivM (auM f t u)) z).2 = evF f z.1 z.2 := by
  rw [← evM]
  have := acM_inv (f := f) (auM_det hD h)
  rw [auM_ac hD h] at this
  rw [this]
theorem pw_ev {f : Fm} {V : mxI} (h : ∀ z : xI, evF f (mv V z).1 (mv V z).2 = evF f z.1 z.2) (z : xI) : ∀ n, evF f (mv (pwM V n) z).1 (mv (pwM V n) z).2 = evF f z.1 z.2
  | 0 => by rw [show pwM V 0 = I2 from rfl, mv_one]
  | n + 1 => by
    show evF f (mv (mm V (pwM V n)) z).1 (mv (mm V (pwM V n)) z).2 = _
    rw [mv_mm, h, pw_ev h z n]
theorem orb_ev {f : Fm} {d t u : Int} (hD : dF f = d) (h : t * t - d * (u * u) = 4) (z : xI) (j : Int) : evF f (orb (auM f t u) z j).1 (orb (auM f t u) z j).2 = evF f z.1 z.2 := by
  unfold orb zpM
  split
  · exact pw_ev (au_ev hD h) z _
  · exact pw_ev (auiv_ev hD h) z _
theorem ne_of_ev {f : Fm} {z : xI} {m : Int} (hm : m ≠ 0) (h : evF f z.1 z.2 = m) : z ≠ (0, 0) := fun e => by
  rw [e] at h
  have : evF f 0 0 = 0 := by unfold evF; grind
  exact hm (h.symm.trans this)
theorem mv_bd {m : mxI} {z : xI} {K L : Nat} (hm : bdE m K) (hz : z.1.natAbs ≤ L ∧ z.2.natAbs ≤ L) : (mv m z).1.natAbs ≤ 2 * (K * L) ∧ (mv m z).2.natAbs ≤ 2 * (K * L) := by
  have up : ∀ x y v u : Int, x.natAbs ≤ K → y.natAbs ≤ L → v.natAbs ≤ K → u.natAbs ≤ L → (x * y + v * u).natAbs ≤ 2 * (K * L) := by
    intro x y v u h1 h2 h3 h4
    have a1 : (x * y + v * u).natAbs ≤ (x * y).natAbs + (v * u).natAbs := Int.natAbs_add_le _ _
    rw [Int.natAbs_mul, Int.natAbs_mul] at a1
    have a2 := Nat.mul_le_mul h1 h2
    have a3 := Nat.mul_le_mul h3 h4
    omega
  obtain ⟨a1, a2, a3, a4⟩ := hm
  exact ⟨up _ _ _ _ a1 hz.1 a2 hz.2, up _ _ _ _ a3 hz.1 a4 hz.2⟩
theorem bdE_iv {m : mxI} {K : Nat} (h : bdE m K) : bdE (ivM m) K := by
  obtain ⟨a1, a2, a3, a4⟩ := h
  refine ⟨a4, ?_, ?_, a1⟩
  · show (-m.2.1).natAbs ≤ K
    omega
  · show (-m.2.2.1).natAbs ≤ K
    omega
/-- scaled orbits -/
theorem mv_scale (m : mxI) (g : Int) (z : xI) : mv m (z.1 * g, z.2 * g) = ((mv m z).1 * g, (mv m z).2 * g) := by
  refine Prod.ext ?_ ?_ <;> (simp only [mv]; grind)
theorem trn_scale {g : Int} (hg : 0 < g) (z : xI) : trn (z.1 * g, z.2 * g) = ((trn z).1 * g, (trn z).2 * g) := by
  have p1 : ∀ y : Int, 0 < y * g ↔ 0 < y := fun y => by
    constructor
    · intro h
      rcases Int.lt_or_le 0 y with q | q
      · exact q
      · have := Int.mul_nonpos_of_nonpos_of_nonneg q (Int.le_of_lt hg)
        omega
    · intro h
      exact Int.mul_pos h hg
  have p2 : ∀ y : Int, y * g = 0 ↔ y = 0 := fun y => by
    constructor
    · intro h
      rcases Int.mul_eq_zero.1 h with q | q
      · exact q
      · omega
    · intro h
      rw [h, Int.zero_mul]
  unfold trn
  simp only [p1, p2]
  split
  · rfl
  · refine Prod.ext ?_ ?_ <;> simp only <;> grind
theorem bt_scale {g : Int} (hg : 0 < g) (a b : xI) : btZ (a.1 * g, a.2 * g) (b.1 * g, b.2 * g) ↔ btZ a b := by
  have m1 : ∀ x : Int, (x * g).natAbs = x.natAbs * g.natAbs := fun x => Int.natAbs_mul _ _
  have g0 : 0 < g.natAbs := by omega
  have lt : ∀ x y : Nat, x * g.natAbs < y * g.natAbs ↔ x < y := fun x y => Nat.mul_lt_mul_right g0
  have eq : ∀ x y : Nat, x * g.natAbs = y * g.natAbs ↔ x = y := fun x y => ⟨fun h => Nat.eq_of_mul_eq_mul_right g0 h, fun h => by rw [h]⟩
  have ng : ∀ y : Int, y * g < 0 ↔ y < 0 := fun y => by
    constructor
    · intro h
      rcases Int.lt_or_le y 0 with q | q
      · exact q
      · have := Int.mul_nonneg q (Int.le_of_lt hg)
        omega
    · intro h
      exact Int.mul_neg_of_neg_of_pos h hg
  unfold btZ
  simp only [m1, lt, eq, ng]
theorem orb_scale (V : mxI) (g : Int) (z : xI) (j : Int) : orb V (z.1 * g, z.2 * g) j = ((orb V z j).1 * g, (orb V z j).2 * g) := mv_scale _ _ _
