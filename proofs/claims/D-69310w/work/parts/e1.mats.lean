/-! matrices of the walks -/
def dM (m : mxI) : Int := m.1 * m.2.2.2 - m.2.1 * m.2.2.1
def mm (m n : mxI) : mxI := (m.1 * n.1 + m.2.1 * n.2.2.1, m.1 * n.2.1 + m.2.1 * n.2.2.2, m.2.2.1 * n.1 + m.2.2.2 * n.2.2.1, m.2.2.1 * n.2.1 + m.2.2.2 * n.2.2.2)
def acM (f : Fm) (m : mxI) : Fm := acF f m.1 m.2.1 m.2.2.1 m.2.2.2
def I2 : mxI := (1, 0, 0, 1)
def ivM (m : mxI) : mxI := (m.2.2.2, -m.2.1, -m.2.2.1, m.1)
def mv (m : mxI) (z : xI) : xI := (m.1 * z.1 + m.2.1 * z.2, m.2.2.1 * z.1 + m.2.2.2 * z.2)
theorem mx_ext {m n : mxI} (h1 : m.1 = n.1) (h2 : m.2.1 = n.2.1) (h3 : m.2.2.1 = n.2.2.1) (h4 : m.2.2.2 = n.2.2.2) : m = n := Prod.ext h1 (Prod.ext h2 (Prod.ext h3 h4))
theorem mm_assoc (a b c : mxI) : mm (mm a b) c = mm a (mm b c) := by
  refine mx_ext ?_ ?_ ?_ ?_ <;> (simp only [mm]; grind)
theorem mm_one (a : mxI) : mm a I2 = a := by
  refine mx_ext ?_ ?_ ?_ ?_ <;> (simp only [mm, I2]; grind)
theorem one_mm (a : mxI) : mm I2 a = a := by
  refine mx_ext ?_ ?_ ?_ ?_ <;> (simp only [mm, I2]; grind)
theorem dM_mm (a b : mxI) : dM (mm a b) = dM a * dM b := by
  simp only [mm, dM]; grind
theorem mm_iv {a : mxI} (h : dM a = 1) : mm a (ivM a) = I2 := by
  simp only [dM] at h
  refine mx_ext ?_ ?_ ?_ ?_ <;> (simp only [mm, I2, ivM]; grind)
theorem iv_mm {a : mxI} (h : dM a = 1) : mm (ivM a) a = I2 := by
  simp only [dM] at h
  refine mx_ext ?_ ?_ ?_ ?_ <;> (simp only [mm, I2, ivM]; grind)
theorem dM_iv (a : mxI) : dM (ivM a) = dM a := by
  simp only [dM, ivM]; grind
theorem iv_iv (a : mxI) : ivM (ivM a) = a := by
  obtain ⟨p, q, r, s⟩ := a
  simp [ivM]
theorem iv_mul (a b : mxI) : ivM (mm a b) = mm (ivM b) (ivM a) := by
  refine mx_ext ?_ ?_ ?_ ?_ <;> (simp only [mm, ivM]; grind)
theorem mv_mm (a b : mxI) (z : xI) : mv (mm a b) z = mv a (mv b z) := by
  refine Prod.ext ?_ ?_ <;> (simp only [mm, mv]; grind)
theorem mv_one (z : xI) : mv I2 z = z := by
  refine Prod.ext ?_ ?_ <;> (simp only [I2, mv]; grind)
theorem acM_one (f : Fm) : acM f I2 = f := acF_one f
theorem acM_mm (f : Fm) (a b : mxI) : acM f (mm a b) = acM (acM f a) b := (acF_acF f _ _ _ _ _ _ _ _).symm
theorem acM_eqv {f : Fm} {a : mxI} (h : dM a = 1) : Eqv f (acM f a) := ⟨_, _, _, _, h, rfl⟩
theorem evM (f : Fm) (a : mxI) (z : xI) : evF (acM f a) z.1 z.2 = evF f (mv a z).1 (mv a z).2 := evF_acF f _ _ _ _ _ _
theorem acM_inv {f : Fm} {a : mxI} (h : dM a = 1) : acM (acM f a) (ivM a) = f := by rw [← acM_mm, mm_iv h, acM_one]
/-- the matrix of one step -/
def sM (k : Int) : mxI := (0, -1, 1, k)
theorem dM_sM (k : Int) : dM (sM k) = 1 := by simp [dM, sM]
theorem stM_mm (k : Int) (m : mxI) : stM k m = mm m (sM k) := by
  refine mx_ext ?_ ?_ ?_ ?_ <;> (simp only [mm, sM, stM]; grind)
theorem itM_mm (d w : Int) : ∀ (n : Nat) (g : Fm) (m : mxI), itM d w n g m = mm m (itM d w n g I2)
  | 0, g, m => (mm_one m).symm
  | n + 1, g, m => by
    show itM d w n (nx d w g) (stM _ m) = mm m (itM d w n (nx d w g) (stM _ I2))
    rw [itM_mm d w n, itM_mm d w n _ (stM _ I2), ← mm_assoc, stM_mm, stM_mm, one_mm]
theorem itM_add (d w : Int) : ∀ (a b : Nat) (g : Fm) (m : mxI), itM d w (a + b) g m = itM d w b (itF d w a g) (itM d w a g m)
  | 0, b, g, m => by rw [Nat.zero_add]; rfl
  | a + 1, b, g, m => by
    rw [show a + 1 + b = (a + b) + 1 by omega]
    exact itM_add d w a b (nx d w g) _
theorem itM_suc (d w : Int) (n : Nat) (g : Fm) (m : mxI) : itM d w (n + 1) g m = stM (tnF d w g n) (itM d w n g m) := itM_add d w n 1 g m
theorem tnF_add (d w : Int) (g : Fm) (a b : Nat) : tnF d w (itF d w a g) b = tnF d w g (a + b) := by
  unfold tnF
  rw [itF_add]
theorem it_d {d w : Int} (hn : nsq d) (n : Nat) {f : Fm} (hD : dF f = d) : dF (itF d w n f) = d := (it_eqv hn n f hD).2
theorem itM_det {d w : Int} (g : Fm) : ∀ n : Nat, dM (itM d w n g I2) = 1
  | 0 => rfl
  | n + 1 => by rw [itM_suc, stM_mm, dM_mm, itM_det g n, dM_sM]; rfl
theorem itM_ac {d w : Int} (hn : nsq d) {g : Fm} (hD : dF g = d) : ∀ n : Nat, acM g (itM d w n g I2) = itF d w n g
  | 0 => acM_one g
  | n + 1 => by
    rw [itM_suc, stM_mm, acM_mm, itM_ac hn hD n, itF_succ]
    have h := it_d (w := w) hn n hD
    exact (nx_ac h (nsq_3 hn h)).symm
/-- the model's matrix is the inverse -/
theorem wy_iv (d w : Int) (f : Fm) : ∀ n : Nat, wyR (tnF d w f) n 0 = (itM d w n f I2).2.2.2 ∧ wyR (tnF d w f) n 1 = -(itM d w n f I2).2.1 ∧ wyR (tnF d w f) n 2 = -(itM d w n f I2).2.2.1 ∧ wyR (tnF d w f) n 3 = (itM d w n f I2).1
  | 0 => ⟨rfl, rfl, rfl, rfl⟩
  | n + 1 => by
    obtain ⟨h0, h1, h2, h3⟩ := wy_iv d w f n
    rw [itM_suc]
    show stepR (tnF d w f n) 1 (stepR (tnF d w f n) 0 (wyR (tnF d w f) n)) 0 = _ ∧ stepR (tnF d w f n) 1 (stepR (tnF d w f n) 0 (wyR (tnF d w f) n)) 1 = _ ∧ stepR (tnF d w f n) 1 (stepR (tnF d w f n) 0 (wyR (tnF d w f) n)) 2 = _ ∧ stepR (tnF d w f n) 1 (stepR (tnF d w f n) 0 (wyR (tnF d w f) n)) 3 = _
    simp only [stepR, upN, stM]
    simp
    rw [h0, h1, h2, h3]
    refine ⟨by grind, by grind, by grind, by grind⟩
