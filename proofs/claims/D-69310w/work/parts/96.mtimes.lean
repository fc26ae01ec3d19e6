/-! the model: products of classes -/
def wdP (d w : Int) : Prop := (d < 0 ∧ w = -1) ∨ (0 < d ∧ isWd d w)
theorem posT_of {d w : Int} (hd : d < 0) : ∀ (m : Nat) (F : Fm), Vld d F → trm d w m F → posT d w m F
  | 0, F, hv, _ => hv.2.2 hd
  | m + 1, F, hv, ht => ⟨hv.2.2 hd, posT_of hd m (nx d w F) (vld_eqv (nx_eqv hv.1 ht.1.1.2.2.2) hv) ht.2⟩
theorem frG_eqv {f g : Fm} (h : frG f g) : Eqv f g := by
  have sl : ∀ (k : Int) (f : Fm), Eqv f (slF k f) := fun k f => eqv_slide f.1 f.2.1 f.2.2 k
  have tu : ∀ f : Fm, Eqv f (toF f) := by
    intro f
    refine ⟨0, -1, 1, 0, by decide, ?_⟩
    unfold toF acF
    refine Prod.ext ?_ (Prod.ext ?_ ?_)
    · show f.2.2 = f.1 * 0 * 0 + f.2.1 * 0 * 1 + f.2.2 * 1 * 1
      grind
    · show -f.2.1 = 2 * f.1 * 0 * -1 + f.2.1 * (0 * 0 + -1 * 1) + 2 * f.2.2 * 1 * 0
      grind
    · show f.1 = f.1 * -1 * -1 + f.2.1 * -1 * 0 + f.2.2 * 0 * 0
      grind
  rcases h with rfl | ⟨y, k, -, -, rfl | rfl⟩
  · exact ⟨1, 0, 0, 1, by decide, by unfold acF; refine Prod.ext ?_ (Prod.ext ?_ ?_) <;> simp⟩
  · exact eqv_trans (sl k f) (tu _)
  · exact eqv_trans (eqv_trans (sl k f) (tu _)) (eqv_trans (sl y _) (tu _))
/-- how great the numbers of a reduced form are -/
theorem nm_bd {d w : Int} {f : Fm} (hn : nsq d) (hd : -1048576 ≤ d ∧ d ≤ 1048576) (hw : wdP d w) (hv : Vld d f) (hr : rdF d w f = true) : ∃ A C : Nat, f.1.natAbs ≤ A ∧ f.2.1.natAbs ≤ A ∧ f.2.2.natAbs ≤ C ∧ ((0 < d ∧ A = 1024 ∧ C = 1024) ∨ (d < 0 ∧ ((A = 1 ∧ C = 262144) ∨ (A = 591 ∧ C = 131220)))) := by
  rcases hw with ⟨h1, h2⟩ | ⟨h1, h2⟩
  · have hp := hv.2.2 h1
    have e : (f.2.1.natAbs : Int) ≤ f.1.natAbs ∧ (f.1.natAbs : Int) ≤ f.2.2 ∧ (0 ≤ f.2.1 ∨ ((f.2.1.natAbs : Int) ≠ f.1.natAbs ∧ (f.1.natAbs : Int) ≠ f.2.2)) := by
      unfold rdF rdB at hr
      rw [if_neg (by omega)] at hr
      exact of_decide_eq_true hr
    obtain ⟨e1, e2, -⟩ := e
    have hD : f.2.1 * f.2.1 - 4 * f.1 * f.2.2 = d := hv.1
    have hb : f.2.1 * f.2.1 ≤ f.1 * f.1 := by
      have h3 : f.2.1 * f.2.1 = (f.2.1.natAbs : Int) * f.2.1.natAbs := by rw [← Int.natCast_mul, ← Int.natAbs_mul, Int.natAbs_of_nonneg (sqn _)]
      have h4 : f.1 * f.1 = (f.1.natAbs : Int) * f.1.natAbs := by rw [← Int.natCast_mul, ← Int.natAbs_mul, Int.natAbs_of_nonneg (sqn _)]
      rw [h3, h4]
      exact Int.mul_le_mul e1 e1 (by omega) (by omega)
    have hac : f.1 * f.1 ≤ f.1 * f.2.2 := Int.mul_le_mul_of_nonneg_left (by omega) (by omega)
    rw [Int.mul_assoc] at hD
    have ha : f.1 ≤ 591 := by
      rcases Int.lt_or_le 591 f.1 with z | z
      · have : 592 * 592 ≤ f.1 * f.1 := Int.mul_le_mul (by omega) (by omega) (by decide) (by omega)
        omega
      · exact z
    have haa : f.1 * f.1 ≤ 591 * 591 := Int.mul_le_mul ha ha (by omega) (by decide)
    by_cases z : f.1 = 1
    · refine ⟨1, 262144, by omega, by omega, ?_, Or.inr ⟨h1, Or.inl ⟨rfl, rfl⟩⟩⟩
      rw [z] at hD hb
      omega
    · refine ⟨591, 131220, by omega, by omega, ?_, Or.inr ⟨h1, Or.inr ⟨rfl, rfl⟩⟩⟩
      rcases Nat.lt_or_ge 131220 f.2.2.natAbs with y | y
      · exfalso
        have h5 : 2 * 131221 ≤ f.1 * f.2.2 := Int.mul_le_mul (by omega) (by omega) (by decide) (by omega)
        have h6 : f.1 * 131221 ≤ f.1 * f.2.2 := Int.mul_le_mul_of_nonneg_left (by omega) (by omega)
        have h7 : f.1 * f.1 ≤ f.1 * 591 := Int.mul_le_mul_of_nonneg_left ha (by omega)
        omega
      · exact y
  · have hR := (rdF_red hn h1 h2 hv.1).1 hr
    have b1 := red_bd hn h1 h2 hv.1 hR
    have b2 := red_c hn h1 h2 hv.1 hR
    have hw4 : w ≤ 1024 := by
      rcases Int.lt_or_le 1024 w with z | z
      · have : 1025 * 1025 ≤ w * w := Int.mul_le_mul (by omega) (by omega) (by decide) (by omega)
        have := h2.2.1
        omega
      · exact z
    exact ⟨1024, 1024, by omega, by omega, by omega, Or.inl ⟨h1, rfl, rfl⟩⟩
theorem dvd_emod (x m : Int) : m ∣ x - x % m := ⟨x / m, by have := Int.emod_add_mul_ediv x m; omega⟩
theorem mmT_bd {u v m : Int} (h : u - v = 2 * m) (hv : v.natAbs ≤ 1024) (hu : u.natAbs ≤ 9000000) : m.natAbs ≤ 10000000 := by omega
theorem fv_bd {v : Int} (h : v.natAbs ≤ 1024) : -9223372036854775808 < v ∧ v < 9223372036854775808 := by omega
theorem md_e {f1 f2 g1 g2 mm iv : Int} (hmm : g2 - f2 = 2 * mm) (hiv : (g1.natAbs : Int) ∣ f1 * iv - 1) : ∃ e' : Int, f2 + 2 * f1 * ((mm % (g1.natAbs : Int)) * iv % (g1.natAbs : Int)) = g2 + 2 * g1 * e' := by
  obtain ⟨s, hs⟩ : (g1.natAbs : Int) ∣ f1 * ((mm % (g1.natAbs : Int)) * iv % (g1.natAbs : Int)) - mm := by
    have a1 := dvd_emod ((mm % (g1.natAbs : Int)) * iv) (g1.natAbs : Int)
    have a2 := dvd_emod mm (g1.natAbs : Int)
    generalize mm % (g1.natAbs : Int) = t at a1 a2 ⊢
    generalize t * iv % (g1.natAbs : Int) = u at a1 ⊢
    have a3 : f1 * u - mm = t * (f1 * iv - 1) - f1 * (t * iv - u) - (mm - t) := by grind
    rw [a3]
    exact Int.dvd_sub (Int.dvd_sub (Int.dvd_trans hiv (Int.dvd_mul_left _ _)) (Int.dvd_trans a1 (Int.dvd_mul_left _ _))) a2
  generalize (mm % (g1.natAbs : Int)) * iv % (g1.natAbs : Int) = u at hs ⊢
  rcases Int.lt_or_le 0 g1 with z | z
  · refine ⟨s, ?_⟩
    have hz : (g1.natAbs : Int) = g1 := by omega
    rw [hz] at hs
    grind
  · refine ⟨-s, ?_⟩
    have hz : (g1.natAbs : Int) = -g1 := by omega
    rw [hz] at hs
    grind
theorem md_c {f g : Fm} {d e e' : Int} (hf : dF f = d) (hg : dF g = d) (he : f.2.1 + 2 * f.1 * e = g.2.1 + 2 * g.1 * e') (hgc : Int.gcd g.1 f.1 = 1) : ∃ C, f.2.2 + f.2.1 * e + f.1 * e * e = g.1 * C := by
  have hDf : f.2.1 * f.2.1 - 4 * f.1 * f.2.2 = d := hf
  have hDg : g.2.1 * g.2.1 - 4 * g.1 * g.2.2 = d := hg
  have h1 : f.1 * (f.2.2 + f.2.1 * e + f.1 * e * e) = g.1 * (g.1 * e' * e' + g.2.1 * e' + g.2.2) := by
    have h2 : (f.2.1 + 2 * f.1 * e) * (f.2.1 + 2 * f.1 * e) = (g.2.1 + 2 * g.1 * e') * (g.2.1 + 2 * g.1 * e') := by rw [he]
    have h3 : 4 * (f.1 * (f.2.2 + f.2.1 * e + f.1 * e * e)) = 4 * (g.1 * (g.1 * e' * e' + g.2.1 * e' + g.2.2)) := by grind
    omega
  obtain ⟨u, v, huv⟩ := bez1 hgc
  generalize g.1 * e' * e' + g.2.1 * e' + g.2.2 = t at h1
  generalize f.2.2 + f.2.1 * e + f.1 * e * e = S at h1 ⊢
  refine ⟨u * S + v * t, ?_⟩
  have h5 : (u * g.1 + v * f.1) * S = S := by rw [huv, Int.one_mul]
  grind
theorem md_d {f : Fm} {d g1 e B C : Int} (hf : dF f = d) (hB : B = f.2.1 + 2 * f.1 * e) (hC : g1 * C = f.2.2 + f.2.1 * e + f.1 * e * e) : B * B - 4 * (f.1 * g1) * C = d := by
  have hDf : f.2.1 * f.2.1 - 4 * f.1 * f.2.2 = d := hf
  have : 4 * (f.1 * g1) * C = 4 * f.1 * (f.2.2 + f.2.1 * e + f.1 * e * e) := by
    rw [← hC]
    grind
  rw [this, hB]
  grind
theorem md_cmp {f g g0 : Fm} {d e e' B C : Int} (hf : dF f = d) (hg : dF g = d) (f1 : f.1 ≠ 0) (g1 : g.1 ≠ 0) (eg : Eqv g0 g) (hB : B = f.2.1 + 2 * f.1 * e) (he : B = g.2.1 + 2 * g.1 * e') (hd : B * B - 4 * (f.1 * g.1) * C = d) : Cmp f g0 (f.1 * g.1, B, C) := by
  have s1 : Eqv f (f.1, B, g.1 * C) := slide_to (e := e) hf f1 hB (by rw [← hd]; grind)
  have s2 : Eqv g (g.1, B, f.1 * C) := slide_to (e := e') hg g1 he (by rw [← hd]; grind)
  exact cmp_eqv1 (cmp_eqv2 (cmp_dir f.1 g.1 B C) (eqv_trans (eqv_symm s2) (eqv_symm eg))) (eqv_symm s1)
theorem md_z {a low z d : Int} (hlow : low.natAbs ≤ a.natAbs) (hab : a.natAbs ≤ 8000000000) (a0 : a ≠ 0) (hd : -1048576 ≤ d ∧ d ≤ 1048576) (h6 : low * low - 4 * (a * z) = d) : -2147483648 < z ∧ z < 2147483648 := by
  have : z.natAbs < 2147483648 := by
    rcases Nat.lt_or_ge z.natAbs 2147483648 with q | q
    · exact q
    · exfalso
      have h1 : a.natAbs * 2147483648 ≤ a.natAbs * z.natAbs := Nat.mul_le_mul (Nat.le_refl _) q
      have h2 : low.natAbs * low.natAbs ≤ a.natAbs * a.natAbs := Nat.mul_le_mul hlow hlow
      have h3 : a.natAbs * a.natAbs ≤ a.natAbs * 8000000000 := Nat.mul_le_mul (Nat.le_refl _) hab
      have h4 : (a * z).natAbs = a.natAbs * z.natAbs := Int.natAbs_mul _ _
      have h5 : (low * low).natAbs = low.natAbs * low.natAbs := Int.natAbs_mul _ _
      have h7 : 1 ≤ a.natAbs := by omega
      generalize a * z = u at h4 h6
      generalize low * low = v at h5 h6
      generalize a.natAbs * z.natAbs = U at h1 h4
      generalize low.natAbs * low.natAbs = V at h2 h5
      generalize a.natAbs * a.natAbs = W at h2 h3
      generalize a.natAbs = X at *
      omega
  omega
theorem md_lK {a B : Int} (a0 : a ≠ 0) : ∃ K : Int, B % (2 * (a.natAbs : Int)) = B + 2 * a * K := by
  have h1 := Int.emod_add_mul_ediv B (2 * (a.natAbs : Int))
  generalize B % (2 * (a.natAbs : Int)) = r at h1 ⊢
  generalize B / (2 * (a.natAbs : Int)) = q at h1
  rcases Int.lt_or_le 0 a with z | z
  · refine ⟨-q, ?_⟩
    have hz : (a.natAbs : Int) = a := by omega
    rw [hz] at h1
    rw [Int.mul_neg]
    omega
  · refine ⟨q, ?_⟩
    have hz : (a.natAbs : Int) = -a := by omega
    rw [hz] at h1
    have h2 : 2 * -a * q = -(2 * a * q) := by grind
    omega
theorem md_lK2 {a B lw K : Int} (hK : lw = B + 2 * a * K) : ∃ K' : Int, lw - 2 * (a.natAbs : Int) = B + 2 * a * K' := by
  rcases Int.lt_or_le 0 a with z | z
  · refine ⟨K - 1, ?_⟩
    have hz : (a.natAbs : Int) = a := by omega
    rw [hz, hK, Int.mul_sub]
    omega
  · refine ⟨K + 1, ?_⟩
    have hz : (a.natAbs : Int) = -a := by omega
    rw [hz, hK, Int.mul_add]
    omega
theorem md_sz {p q r e : Int} (hp : p.natAbs ≤ 1024) (hq : q.natAbs ≤ 1024) (hr : r.natAbs ≤ 262144) (he : 0 ≤ e ∧ e < 13000000) : (-9000000000000000000 < r + q * e + p * e * e ∧ r + q * e + p * e * e < 9000000000000000000) ∧ -30000000000 < q + 2 * p * e ∧ q + 2 * p * e < 30000000000 := by
  have he' : e.natAbs ≤ 13000000 := by omega
  have h1 := ab_mul hq he'
  have h2 := ab_mul (ab_mul hp he') he'
  have h3 := ab3 hr h1 h2
  have h4 := ab_mul (ab_mul (show (2 : Int).natAbs ≤ 2 by decide) hp) he'
  have h5 := ab2 hq h4
  generalize r + q * e + p * e * e = u at h3 ⊢
  generalize q + 2 * p * e = v at h5 ⊢
  omega
section
variable {d w : Int} {n : Nat} {A : Nat → pI} {nxt : Nat → Nat} {cls : Nat → Int} {cnt : Nat} {nm : Nat → Nat}
/-- the model's table, and the width -/
def isMT (h : mj_H) (d w : Int) (n : Nat) (A : Nat → pI) (cls : Nat → Int) (cnt : Nat) (nm : Nat → Nat) : Prop := isMa h n A ∧ isMc h n cls cnt nm ∧ isMw h d w
theorem isMT.M {I J S : Nat → Prop} {h h' : mj_H} (f : FrM I J S h h') (a : isMT h d w n A cls cnt nm) (h1 : ¬ I 3 ∧ ¬ I 7) (h2 : ¬ J 1 ∧ ¬ J 2) (h3 : ∀ x, 1413 ≤ x ∧ x ≤ 1416 → ¬ S x) : isMT h' d w n A cls cnt nm := ⟨a.1.M f h1.1 (h3 _ (by omega)) (h3 _ (by omega)), a.2.1.M f h1.2 (h3 _ (by omega)) (h3 _ (by omega)), a.2.2.M f h2.1 h2.2⟩
/-- what the model asks for: a form without common divisor is near -/
def fr7 (f : Fm) (n : Int) : Prop := ∃ y0 k0 : Int, (0 ≤ y0 ∧ y0 ≤ 7) ∧ (-y0 ≤ k0 ∧ k0 ≤ y0) ∧ (Int.gcd (toF (slF k0 f)).1 n = 1 ∨ Int.gcd (toF (slF y0 (toF (slF k0 f)))).1 n = 1)
def isFr (d : Int) (A : Nat → pI) (cnt : Nat) (nm : Nat → Nat) : Prop := ∀ x y, x < cnt → y < cnt → fr7 (nmF d A nm y) (nmF d A nm x).1
abbrev l204 (x y : Int32) (p q r : Int64) (x9 x10 x11 x12 x13 x14 x15 x16 : Option Value) : mj_Ls := [some (.ref 1412), some (.int x), some (.int y), some (.long p), none, some (.long q), none, some (.long r), none, x9, x10, x11, x12, x13, x14, x15, x16]
/-- FormHouseModel.times(II)I; cuts at [5, 16, 22, 27, 32, 41, 71, 86, 111, 121, 134, 145, 164, 184] -/
def cl_204_4 : List mj_E := (176, false, .getfield 132, 3, 17, 50, 1, 0, 0) ::
  (179, false, .lmul, 1, 0, 0, 0, 0, 0) ::
  (180, false, .ldiv, 1, 0, 0, 0, 0, 0) ::
  (181, false, .invokevirtual 179, 3, 207, 1, 17, 0, 0) ::
  (184, true, .aload_n 0, 1, 0, 0, 0, 0, 0) ::
  (185, false, .invokevirtual 195, 3, 202, 0, 17, 0, 0) ::
  (188, false, .ireturn, 1, 0, 0, 0, 0, 0) ::
  []
def cl_204_3 : List mj_E := (131, false, .lmul, 1, 0, 0, 0, 0, 0) ::
  (132, false, .lstore 13, 2, 0, 0, 0, 0, 0) ::
  (134, true, .aload_n 0, 1, 0, 0, 0, 0, 0) ::
  (135, false, .getfield 135, 3, 17, 51, 1, 0, 0) ::
  (138, false, .lload 13, 2, 0, 0, 0, 0, 0) ::
  (140, false, .invokestatic 143, 3, 200, 2, 0, 0, 0) ::
  (143, false, .lstore 15, 2, 0, 0, 0, 0, 0) ::
  (145, true, .ldc2_w 130, 3, 0, 0, 0, 0, jL 2) ::
  (148, false, .lload 15, 2, 0, 0, 0, 0, 0) ::
  (150, false, .lmul, 1, 0, 0, 0, 0, 0) ::
  (151, false, .lload 13, 2, 0, 0, 0, 0, 0) ::
  (153, false, .lcmp, 1, 0, 0, 0, 0, 0) ::
  (154, false, .ifCond .le 10, 3, 89, 0, 0, 0, 0) ::
  (157, false, .lload 15, 2, 0, 0, 0, 0, 0) ::
  (159, false, .lload 13, 2, 0, 0, 0, 0, 0) ::
  (161, false, .lsub, 1, 0, 0, 0, 0, 0) ::
  (162, false, .lstore 15, 2, 0, 0, 0, 0, 0) ::
  (164, true, .aload_n 0, 1, 0, 0, 0, 0, 0) ::
  (165, false, .lload 15, 2, 0, 0, 0, 0, 0) ::
  (167, false, .aload_n 0, 1, 0, 0, 0, 0, 0) ::
  (168, false, .getfield 135, 3, 17, 51, 1, 0, 0) ::
  (171, false, .lsub, 1, 0, 0, 0, 0, 0) ::
  (172, false, .ldc2_w 130, 3, 0, 0, 0, 0, jL 2) ::
  (175, false, .aload_n 0, 1, 0, 0, 0, 0, 0) ::
  cl_204_4
def cl_204_2 : List mj_E := (89, false, .lload 5, 2, 0, 0, 0, 0, 0) ::
  (91, false, .lload 11, 2, 0, 0, 0, 0, 0) ::
  (93, false, .lmul, 1, 0, 0, 0, 0, 0) ::
  (94, false, .ladd, 1, 0, 0, 0, 0, 0) ::
  (95, false, .lload_n 3, 1, 0, 0, 0, 0, 0) ::
  (96, false, .lload 11, 2, 0, 0, 0, 0, 0) ::
  (98, false, .lmul, 1, 0, 0, 0, 0, 0) ::
  (99, false, .lload 11, 2, 0, 0, 0, 0, 0) ::
  (101, false, .lmul, 1, 0, 0, 0, 0, 0) ::
  (102, false, .ladd, 1, 0, 0, 0, 0, 0) ::
  (103, false, .aload_n 0, 1, 0, 0, 0, 0, 0) ::
  (104, false, .getfield 132, 3, 17, 50, 1, 0, 0) ::
  (107, false, .ldiv, 1, 0, 0, 0, 0, 0) ::
  (108, false, .putfield 140, 3, 17, 52, 1, 0, 0) ::
  (111, true, .aload_n 0, 1, 0, 0, 0, 0, 0) ::
  (112, false, .lload_n 3, 1, 0, 0, 0, 0, 0) ::
  (113, false, .aload_n 0, 1, 0, 0, 0, 0, 0) ::
  (114, false, .getfield 132, 3, 17, 50, 1, 0, 0) ::
  (117, false, .lmul, 1, 0, 0, 0, 0, 0) ::
  (118, false, .putfield 132, 3, 17, 50, 1, 0, 0) ::
  (121, true, .ldc2_w 130, 3, 0, 0, 0, 0, jL 2) ::
  (124, false, .aload_n 0, 1, 0, 0, 0, 0, 0) ::
  (125, false, .getfield 132, 3, 17, 50, 1, 0, 0) ::
  (128, false, .invokestatic 124, 3, 196, 1, 0, 0, 0) ::
  cl_204_3
def cl_204_1 : List mj_E := (45, false, .lload 5, 2, 0, 0, 0, 0, 0) ::
  (47, false, .lsub, 1, 0, 0, 0, 0, 0) ::
  (48, false, .ldc2_w 130, 3, 0, 0, 0, 0, jL 2) ::
  (51, false, .ldiv, 1, 0, 0, 0, 0, 0) ::
  (52, false, .lload 9, 2, 0, 0, 0, 0, 0) ::
  (54, false, .invokestatic 143, 3, 200, 2, 0, 0, 0) ::
  (57, false, .lload_n 3, 1, 0, 0, 0, 0, 0) ::
  (58, false, .lload 9, 2, 0, 0, 0, 0, 0) ::
  (60, false, .invokestatic 192, 3, 209, 2, 0, 0, 0) ::
  (63, false, .lmul, 1, 0, 0, 0, 0, 0) ::
  (64, false, .lload 9, 2, 0, 0, 0, 0, 0) ::
  (66, false, .invokestatic 143, 3, 200, 2, 0, 0, 0) ::
  (69, false, .lstore 11, 2, 0, 0, 0, 0, 0) ::
  (71, true, .aload_n 0, 1, 0, 0, 0, 0, 0) ::
  (72, false, .lload 5, 2, 0, 0, 0, 0, 0) ::
  (74, false, .ldc2_w 130, 3, 0, 0, 0, 0, jL 2) ::
  (77, false, .lload_n 3, 1, 0, 0, 0, 0, 0) ::
  (78, false, .lmul, 1, 0, 0, 0, 0, 0) ::
  (79, false, .lload 11, 2, 0, 0, 0, 0, 0) ::
  (81, false, .lmul, 1, 0, 0, 0, 0, 0) ::
  (82, false, .ladd, 1, 0, 0, 0, 0, 0) ::
  (83, false, .putfield 135, 3, 17, 51, 1, 0, 0) ::
  (86, true, .aload_n 0, 1, 0, 0, 0, 0, 0) ::
  (87, false, .lload 7, 2, 0, 0, 0, 0, 0) ::
  cl_204_2
def cl_204_0 : List mj_E := (0, false, .aload_n 0, 1, 0, 0, 0, 0, 0) ::
  (1, false, .iload_n 1, 1, 0, 0, 0, 0, 0) ::
  (2, false, .invokevirtual 185, 3, 205, 1, 17, 0, 0) ::
  (5, true, .aload_n 0, 1, 0, 0, 0, 0, 0) ::
  (6, false, .getfield 132, 3, 17, 50, 1, 0, 0) ::
  (9, false, .lstore_n 3, 1, 0, 0, 0, 0, 0) ::
  (10, false, .aload_n 0, 1, 0, 0, 0, 0, 0) ::
  (11, false, .getfield 135, 3, 17, 51, 1, 0, 0) ::
  (14, false, .lstore 5, 2, 0, 0, 0, 0, 0) ::
  (16, true, .aload_n 0, 1, 0, 0, 0, 0, 0) ::
  (17, false, .getfield 140, 3, 17, 52, 1, 0, 0) ::
  (20, false, .lstore 7, 2, 0, 0, 0, 0, 0) ::
  (22, true, .aload_n 0, 1, 0, 0, 0, 0, 0) ::
  (23, false, .iload_n 2, 1, 0, 0, 0, 0, 0) ::
  (24, false, .invokevirtual 185, 3, 205, 1, 17, 0, 0) ::
  (27, true, .aload_n 0, 1, 0, 0, 0, 0, 0) ::
  (28, false, .lload_n 3, 1, 0, 0, 0, 0, 0) ::
  (29, false, .invokevirtual 189, 3, 206, 1, 17, 0, 0) ::
  (32, true, .aload_n 0, 1, 0, 0, 0, 0, 0) ::
  (33, false, .getfield 132, 3, 17, 50, 1, 0, 0) ::
  (36, false, .invokestatic 124, 3, 196, 1, 0, 0, 0) ::
  (39, false, .lstore 9, 2, 0, 0, 0, 0, 0) ::
  (41, true, .aload_n 0, 1, 0, 0, 0, 0, 0) ::
  (42, false, .getfield 135, 3, 17, 51, 1, 0, 0) ::
  cl_204_1
def cd_204 : List mj_E := cl_204_0
def cx_204 : mj_X := (1, [], [])
theorem tb_204 : mj_tab (mj_mt 204) cx_204 cd_204 mj_mh [(0, 0, 0), (0, 0, 0), (7026, 0, 0), (0, 0, 0), (7149, 0, 0), (0, 0, 0), (0, 0, 0), (7150, 0, 0), (0, 0, 0), (0, 0, 0), (7151, 0, 0), (0, 0, 0), (0, 0, 0), (0, 0, 0), (7026, 0, 0), (0, 0, 0), (0, 0, 0), (7030, 0, 0), (0, 0, 0), (7149, 0, 0), (6233, 0, 0), (0, 0, 0), (0, 0, 0), (7150, 0, 0), (0, 0, 0), (0, 0, 0), (6218, 0, 0), (0, 0, 0), (0, 0, 0), (7007, 0, 0), (0, 0, 0), (0, 0, 0), (7042, 0, 0), (0, 0, 0), (0, 0, 0), (7007, 0, 0), (0, 0, 0), (0, 0, 0), (0, 0, 0), (6218, 0, 0), (0, 0, 0), (0, 0, 0), (0, 0, 0), (0, 0, 0), (0, 0, 0), (7150, 0, 0), (0, 0, 0), (0, 0, 0), (0, 0, 0), (0, 0, 0), (0, 0, 0), (0, 0, 0), (0, 0, 0), (0, 0, 0), (0, 0, 0), (0, 0, 0), (0, 0, 0), (0, 0, 0), (0, 0, 0), (7149, 0, 0), (0, 0, 0), (7151, 0, 0), (0, 0, 0), (0, 0, 0), (0, 0, 0), (7149, 0, 0), (0, 0, 0), (7149, 0, 0), (6218, 0, 0), (0, 0, 0), (7149, 0, 0), (6233, 0, 0), (0, 0, 0), (0, 0, 0), (0, 0, 0), (7150, 0, 0), (0, 0, 0), (7007, 0, 0), (0, 0, 0), (6218, 0, 0), (0, 0, 0), (0, 0, 0), (0, 0, 0), (0, 0, 0), (0, 0, 0), (0, 0, 0), (0, 0, 0), (0, 0, 0), (0, 0, 0), (0, 0, 0), (0, 0, 0), (0, 0, 0), (7150, 0, 0), (0, 0, 0), (6218, 0, 0), (0, 0, 0), (7149, 0, 0), (0, 0, 0), (0, 0, 0), (7034, 0, 0), (0, 0, 0), (7014, 0, 0), (0, 0, 0)] = true := mj_tab_f (by decide +kernel)
theorem ct_204 (G : mj_G) {h : mj_H} (L : isLam h) (T : isTF d w n A nxt cls cnt nm) (hw : wdP d w) (hfr : isFr d A cnt nm) (hT : isMT h d w n A cls cnt nm) (x y : Fin cnt) : mj_Ct G (mj_mt 204) 0 0 [.ref 1412, .int (jI x.val), .int (jI y.val)] h (fun o h' => o = .returned (some (.int (jI (mulC T x y).val))) ∧ FrM noT jF noT h h') := by
  obtain ⟨⟨hnsq, hdd, hd, hwb, hn, hcnt, hS, hx⟩, hv, hcl, hnm, heq, hred, hring, hall⟩ := id T
  have hd0 : d ≠ 0 := by
    intro z
    rcases hw with q | q <;> omega
  obtain ⟨m1, -⟩ := hnm x.val x.isLt
  obtain ⟨m2, -⟩ := hnm y.val y.isLt
  obtain ⟨vx, rx, -, -⟩ := hv _ m1
  obtain ⟨vy, ry, -, -⟩ := hv _ m2
  obtain ⟨P, CP, bp1, bp2, bp3, hP⟩ := nm_bd hnsq hd hw vx rx
  obtain ⟨Q, CQ, bq1, bq2, bq3, hQ⟩ := nm_bd hnsq hd hw vy ry
  obtain ⟨y0, k0, hy0, hk0, hex⟩ := hfr x.val y.val x.isLt y.isLt
  have nz : (A (nm x.val)).1 ≠ 0 ∧ (A (nm y.val)).1 ≠ 0 := ⟨(hx _ m1).2.1, (hx _ m2).2.1⟩
  have ex : nmF d A nm x.val = fmP d (A (nm x.val)) := rfl
  have ey : nmF d A nm y.val = fmP d (A (nm y.val)) := rfl
  rw [← ex] at vx bp1 bp2 bp3
  rw [← ey] at vy bq1 bq2 bq3
  obtain ⟨f, hf⟩ : ∃ f, f = nmF d A nm x.val := ⟨_, rfl⟩
  obtain ⟨g0, hg0⟩ : ∃ g0, g0 = nmF d A nm y.val := ⟨_, rfl⟩
  rw [← hf] at ex vx bp1 bp2 bp3 hex
  rw [← hg0] at ey vy bq1 bq2 bq3 hex
  obtain ⟨fb1, fb2, fb3, gB, q0b⟩ : f.1.natAbs ≤ 1024 ∧ f.2.1.natAbs ≤ 1024 ∧ f.2.2.natAbs ≤ 262144 ∧ (∀ g, frG g0 g → g.1.natAbs ≤ 12999999 ∧ g.2.1.natAbs ≤ 9000000 ∧ (f.1 * g.1).natAbs ≤ 8000000000) ∧ g0.1.natAbs ≤ 1048576 ∧ g0.2.1.natAbs ≤ 1048576 ∧ g0.2.2.natAbs ≤ 1048576 := by
    have hPb : P ≤ 1024 ∧ CP ≤ 262144 := by
      clear hQ bq1 bq2 bq3 bp1 bp2 bp3
      omega
    have hQb : Q ≤ 1024 ∧ CQ ≤ 262144 := by
      clear hP bq1 bq2 bq3 bp1 bp2 bp3
      omega
    have hPV : P * (2850 * Q + 49 * CQ) ≤ 8000000000 := by
      clear bq1 bq2 bq3 bp1 bp2 bp3
      rcases hP with ⟨p0, p1, -⟩ | ⟨p0, ⟨p1, -⟩ | ⟨p1, -⟩⟩ <;> rcases hQ with ⟨q0, q1, q2⟩ | ⟨q0, ⟨q1, q2⟩ | ⟨q1, q2⟩⟩ <;> subst p1 q1 q2 <;> first | decide | omega
    have hV : 2850 * Q + 49 * CQ ≤ 12999999 ∧ 799 * Q + 14 * CQ ≤ 9000000 := by
      clear hP bq1 bq2 bq3 bp1 bp2 bp3 hPV
      omega
    clear hP hQ
    refine ⟨Nat.le_trans bp1 hPb.1, Nat.le_trans bp2 hPb.1, Nat.le_trans bp3 hPb.2, fun g hg => ?_, Nat.le_trans bq1 (by omega), Nat.le_trans bq2 (by omega), Nat.le_trans bq3 (by omega)⟩
    have hgb := frG_bd hg bq1 bq2 bq3
    exact ⟨Nat.le_trans hgb.1 hV.1, Nat.le_trans hgb.2 hV.2, Nat.le_trans (ab_mul bp1 hgb.1) hPV⟩
  clear hP hQ bp1 bp2 bp3 bq1 bq2 bq3
  refine mj_Ct_of mj_ok tb_204 rfl rfl (Nat.le_of_ble_eq_true rfl) (fun Run hR => ?_)
  -- the last part: the class of a small form
  have fin : ∀ (h' : mj_H) (F : Fm) (x3 x4 x5 x6 x7 x8 x9 x10 x11 x12 x13 x14 x15 x16 : Option Value), Vld d F → okF F → (∃ K, Cmp f g0 K ∧ Eqv K F) → isMm h' F → FrM noT jF noT h h' → Run 184 [some (.ref 1412), some (.int (jI x.val)), some (.int (jI y.val)), x3, x4, x5, x6, x7, x8, x9, x10, x11, x12, x13, x14, x15, x16] [] h' (0, 0) := by
    intro h' F x3 x4 x5 x6 x7 x8 x9 x10 x11 x12 x13 x14 x15 x16 vF oF hK hm F'
    obtain ⟨K, k1, k2⟩ := hK
    obtain ⟨m, -, t2, k, t3, t4⟩ := hred F vF oF
    have L' := F'.lay L
    have hT' := hT.M F' ⟨fun z => z, fun z => z⟩ (by omega) (fun _ _ z => z)
    refine hR 60 100 _ _ _ _ _ _ rfl ?_
    refine ⟨L'.K 1412 rfl, jcallP (ct_202 G L' hT'.1 hS hT'.2.1 hT'.2.2 (by omega) hd0 hwb hm t2 (fun z => posT_of z m F vF t2) t3 (by rw [t4]; exact ⟨rfl, rfl⟩)) ?_⟩
    rintro o h3 ⟨rfl, -, F3⟩
    refine ⟨?_, F'.trans F3⟩
    obtain ⟨c, c1, c2, c3⟩ := tf_place T t3
    have e1 : Eqv F (fmP d (A k)) := t4 ▸ (it_eqv hnsq m F vF.1).1
    have hm2 : mulC T x y = ⟨c, c1⟩ := by
      refine mulC_eq T (F := K) ?_ (eqv_trans k2 (eqv_trans e1 c3))
      rw [← hf, ← hg0]
      exact k1
    rw [hm2, c2]
  -- with the form g instead of the second one
  have mid : ∀ (h' : mj_H) (g : Fm), isMm h' g → frG g0 g → Int.gcd g.1 f.1 = 1 → FrM noT jF noT h h' → ∀ (x9 x10 x11 x12 x13 x14 x15 x16 : Option Value), Run 32 (l204 (jI x.val) (jI y.val) (jL f.1) (jL f.2.1) (jL f.2.2) x9 x10 x11 x12 x13 x14 x15 x16) [] h' (0, 0) := by
    intro h' g hm hg hgc F'
    have L' := F'.lay L
    obtain ⟨gb1, gb2, gb3⟩ := gB g hg
    have eg := frG_eqv hg
    have vg := vld_eqv eg vy
    have g1 : g.1 ≠ 0 := vld_1 hnsq vg
    have f1 : f.1 ≠ 0 := vld_1 hnsq vx
    obtain ⟨mm, hmm⟩ := par_d (vx.1.trans vg.1.symm)
    have hmA : 0 < (g.1.natAbs : Int) ∧ (g.1.natAbs : Int) < 13000000 := by omega
    -- from the new form on
    have r121 : ∀ (h3 : mj_H) (e e' : Int) (C : Int) (x9 x10 x13 x14 x15 x16 : Option Value) (eL : Int64), f.2.1 + 2 * f.1 * e = g.2.1 + 2 * g.1 * e' → 0 ≤ e ∧ e < 13000000 → g.1 * C = f.2.2 + f.2.1 * e + f.1 * e * e → isMm h3 (f.1 * g.1, f.2.1 + 2 * f.1 * e, C) → FrM noT jF noT h h3 → Run 121 (l204 (jI x.val) (jI y.val) (jL f.1) (jL f.2.1) (jL f.2.2) x9 x10 (some (.long eL)) none x13 x14 x15 x16) [] h3 (0, 0) := by
      intro h3 e e' C x9 x10 x13 x14 x15 x16 eL he heb hC hm3 F3
      have L3 := F3.lay L
      obtain ⟨B, hB⟩ : ∃ B, B = f.2.1 + 2 * f.1 * e := ⟨_, rfl⟩
      rw [← hB] at he hm3
      have hdB := md_d vx.1 hB hC
      have hcmp := md_cmp vx.1 vg.1 f1 g1 eg hB he hdB
      have vK : Vld d (f.1 * g.1, B, C) := cmp_vld hnsq vx vy hcmp
      have hBb : -30000000000 < B ∧ B < 30000000000 := by
        rw [hB]
        exact (md_sz fb1 fb2 fb3 heb).2
      obtain ⟨a, ha⟩ : ∃ a, a = f.1 * g.1 := ⟨_, rfl⟩
      have a0 : a ≠ 0 := by
        rw [ha]
        exact Int.mul_ne_zero f1 g1
      have hab : a.natAbs ≤ 8000000000 := ha ▸ gb3
      rw [← ha] at hm3 hcmp vK
      clear hdB hC heb he hB gb3 fb1 fb2 fb3 gb1 gb2 hmm hmA q0b hy0 hk0 hex hgc gB
      -- the slide
      have slid : ∀ low : Int, (∃ K : Int, low = B + 2 * a * K) → low.natAbs ≤ a.natAbs → ∀ (x9 x10 x11 x12 x13 x14 : Option Value) (lL : Int64), lL = jL low → Run 164 (l204 (jI x.val) (jI y.val) (jL f.1) (jL f.2.1) (jL f.2.2) x9 x10 x11 x12 x13 x14 (some (.long lL)) none) [] h3 (0, 0) := by
        rintro low ⟨K, hK⟩ hlow x9 x10 x11 x12 x13 x14 lL rfl
        have eK : (jL low - hJ h3 1412 51) / (jL 2 * hJ h3 1412 50) = jL K := by
          rw [hm3.1, hm3.2.1, jL_sub, jL_mul]
          show jL (low - B) / jL (2 * a) = jL K
          rw [jL_div (by omega) (by omega) (by omega) (by omega), show low - B = 2 * a * K by omega, Int.mul_tdiv_cancel_left _ (by omega)]
        have c207 := ct_207 G L3 hm3 K
        refine hR 60 89 _ _ _ _ _ _ rfl ?_
        refine ⟨L3.K 1412 rfl, L3.K 1412 rfl, ?_, L3.K 1412 rfl, ?_⟩
        · rw [hm3.1, jL_mul]
          show ¬ jL (2 * a) = jL 0
          rw [jL_eq (by omega) (by omega) (by omega) (by omega)]
          omega
        · rw [eK]
          refine jcallP c207 ?_
          rintro o h4 ⟨rfl, m4, F4⟩
          have es : Eqv (a, B, C) (slF K (a, B, C)) := eqv_slide a B C K
          have vs := vld_eqv es vK
          have e2 : slF K (a, B, C) = (a, low, a * K * K + B * K + C) := by
            unfold slF
            rw [hK]
          have hD4 : low * low - 4 * (a * (a * K * K + B * K + C)) = d := by
            have := vs.1
            rw [e2] at this
            rw [← this]
            show _ = low * low - 4 * a * (a * K * K + B * K + C)
            rw [Int.mul_assoc 4 a]
          have hc0 : a * K * K + B * K + C ≠ 0 := by
            have h9 := nsq_3 hnsq vs.1
            rw [e2] at h9
            exact h9
          refine fin h4 _ _ _ _ _ _ _ _ _ _ _ _ _ _ _ vs ?_ ⟨_, hcmp, es⟩ m4 (F3.trans F4)
          rw [e2]
          generalize a * K * K + B * K + C = z at hD4 hc0
          have hz := md_z hlow hab a0 hd hD4
          clear hD4 eK hK
          show (_ < a ∧ a < _) ∧ (_ < low ∧ low < _) ∧ (_ < z ∧ z < _) ∧ z ≠ 0
          omega
      have htw : 0 < 2 * (a.natAbs : Int) := by omega
      have l0 : 0 ≤ B % (2 * (a.natAbs : Int)) := Int.emod_nonneg _ (by omega)
      have l1 : B % (2 * (a.natAbs : Int)) < 2 * (a.natAbs : Int) := Int.emod_lt_of_pos _ (by omega)
      have lK : ∃ K : Int, B % (2 * (a.natAbs : Int)) = B + 2 * a * K := md_lK a0
      obtain ⟨lw, hlw⟩ : ∃ lw, lw = B % (2 * (a.natAbs : Int)) := ⟨_, rfl⟩
      rw [← hlw] at l0 l1 lK
      have r145 : ∀ (x9 x10 x11 x12 : Option Value) (tL lL : Int64), tL = jL (2 * (a.natAbs : Int)) → lL = jL lw → Run 145 (l204 (jI x.val) (jI y.val) (jL f.1) (jL f.2.1) (jL f.2.2) x9 x10 x11 x12 (some (.long tL)) none (some (.long lL)) none) [] h3 (0, 0) := by
        rintro x9 x10 x11 x12 tL lL rfl rfl
        refine hR 60 79 _ _ _ _ _ _ rfl ?_
        refine ⟨fun c => ?_, fun c => ?_⟩
        · simp only [mj_lcm] at c
          rw [jL_mul, jL_le (by omega) (by omega) (by omega) (by omega)] at c
          exact slid lw lK (by omega) _ _ _ _ _ _ _ rfl
        · simp only [mj_lcm] at c
          rw [jL_mul, jL_le (by omega) (by omega) (by omega) (by omega)] at c
          refine slid (lw - 2 * (a.natAbs : Int)) ?_ (by omega) _ _ _ _ _ _ _ (by rw [jL_sub])
          obtain ⟨K, hK⟩ := lK
          exact md_lK2 hK
      have r134 : ∀ (x9 x10 x11 x12 x15 x16 : Option Value) (tL : Int64), tL = jL (2 * (a.natAbs : Int)) → Run 134 (l204 (jI x.val) (jI y.val) (jL f.1) (jL f.2.1) (jL f.2.2) x9 x10 x11 x12 (some (.long tL)) none x15 x16) [] h3 (0, 0) := by
        rintro x9 x10 x11 x12 x15 x16 tL rfl
        have c200 := ct_200 G (x := B) (y := 2 * (a.natAbs : Int)) (by omega) (by omega) (by omega) (by omega) h3
        rw [← hlw, ← show hJ h3 1412 51 = jL B from hm3.2.1] at c200
        refine hR 60 74 _ _ _ _ _ _ rfl ?_
        refine ⟨L3.K 1412 rfl, jcall c200 ?_⟩
        exact r145 _ _ _ _ _ _ rfl rfl
      have c196 := ct_196 G (x := a) (by omega) (by omega) h3
      rw [← show hJ h3 1412 50 = jL a from hm3.1] at c196
      refine hR 60 68 _ _ _ _ _ _ rfl ?_
      refine ⟨L3.K 1412 rfl, jcall c196 ?_⟩
      exact r134 _ _ _ _ _ _ _ (by rw [jL_mul])
    have r71 : ∀ (e e' : Int) (x9 x10 x13 x14 x15 x16 : Option Value) (eL : Int64), f.2.1 + 2 * f.1 * e = g.2.1 + 2 * g.1 * e' → 0 ≤ e ∧ e < 13000000 → eL = jL e → Run 71 (l204 (jI x.val) (jI y.val) (jL f.1) (jL f.2.1) (jL f.2.2) x9 x10 (some (.long eL)) none x13 x14 x15 x16) [] h' (0, 0) := by
      rintro e e' x9 x10 x13 x14 x15 x16 eL he heb rfl
      -- g.1 divides what is to be divided
      obtain ⟨C, hC⟩ := md_c vx.1 vg.1 he hgc
      have hsz := (md_sz fb1 fb2 fb3 heb).1
      have r111 : ∀ (h3 : mj_H) (x9 x10 x13 x14 x15 x16 : Option Value), isMm h3 (g.1, f.2.1 + 2 * f.1 * e, C) → FrM noT jF noT h h3 → Run 111 (l204 (jI x.val) (jI y.val) (jL f.1) (jL f.2.1) (jL f.2.2) x9 x10 (some (.long (jL e))) none x13 x14 x15 x16) [] h3 (0, 0) := by
        intro h3 x9 x10 x13 x14 x15 x16 hm3 F3
        have L3 := F3.lay L
        refine hR 60 62 _ _ _ _ _ _ rfl ?_
        refine ⟨L3.K 1412 rfl, L3.K 1412 rfl, ?_⟩
        refine r121 _ e e' C _ _ _ _ _ _ _ he heb hC.symm ⟨?_, hm3.2.1, hm3.2.2⟩ (F3.fJ (by omega) _)
        refine (sJ_at _ _ _ _).trans ?_
        rw [hm3.1, jL_mul]
      have r86 : ∀ (h3 : mj_H) (x9 x10 x13 x14 x15 x16 : Option Value), isMm h3 (g.1, f.2.1 + 2 * f.1 * e, g.2.2) → FrM noT jF noT h h3 → Run 86 (l204 (jI x.val) (jI y.val) (jL f.1) (jL f.2.1) (jL f.2.2) x9 x10 (some (.long (jL e))) none x13 x14 x15 x16) [] h3 (0, 0) := by
        intro h3 x9 x10 x13 x14 x15 x16 hm3 F3
        have L3 := F3.lay L
        refine hR 60 46 _ _ _ _ _ _ rfl ?_
        have e1 : hJ h3 1412 50 = jL g.1 := hm3.1
        refine ⟨L3.K 1412 rfl, ?_, L3.K 1412 rfl, ?_⟩
        · rw [e1]
          show ¬ jL g.1 = jL 0
          rw [jL_eq (by omega) (by omega) (by omega) (by omega)]
          exact g1
        · refine r111 _ _ _ _ _ _ _ ⟨hm3.1, hm3.2.1, ?_⟩ (F3.fJ (by omega) _)
          refine (sJ_at _ _ _ _).trans ?_
          rw [e1, jL_mul, jL_mul, jL_mul, jL_add, jL_add, jL_div (by omega) (by omega) (by omega) (by omega), hC, Int.mul_tdiv_cancel_left _ g1]
      refine hR 60 37 _ _ _ _ _ _ rfl ?_
      refine ⟨L'.K 1412 rfl, ?_⟩
      refine r86 _ _ _ _ _ _ _ ⟨hm.1, ?_, hm.2.2⟩ (F'.fJ (by omega) _)
      refine (sJ_at _ _ _ _).trans ?_
      rw [jL_mul, jL_mul, jL_add]
    have r41 : ∀ (x11 x12 x13 x14 x15 x16 : Option Value) (mL : Int64), mL = jL (g.1.natAbs : Int) → Run 41 (l204 (jI x.val) (jI y.val) (jL f.1) (jL f.2.1) (jL f.2.2) (some (.long mL)) none x11 x12 x13 x14 x15 x16) [] h' (0, 0) := by
      rintro x11 x12 x13 x14 x15 x16 mL rfl
      have hmmb : mm.natAbs ≤ 10000000 := mmT_bd hmm fb2 gb2
      have em : (hJ h' 1412 51 - jL f.2.1) / jL 2 = jL mm := by
        rw [hm.2.1, jL_sub, jL_div (by omega) (by omega) (by omega) (by omega), hmm, Int.mul_tdiv_cancel_left _ (by decide)]
      have c200 := ct_200 G (x := mm) (y := (g.1.natAbs : Int)) (by omega) (by omega) (by omega) (by omega) h'
      have q0 : 0 ≤ mm % (g.1.natAbs : Int) := Int.emod_nonneg _ (by omega)
      have q1 : mm % (g.1.natAbs : Int) < (g.1.natAbs : Int) := Int.emod_lt_of_pos _ (by omega)
      have c209 := ct_209 G (v := f.1) (m := (g.1.natAbs : Int)) (fv_bd fb1) (by omega) (by rw [Int.gcd_comm]; exact hgc) h'
      refine hR 60 22 _ _ _ _ _ _ rfl ?_
      refine ⟨L'.K 1412 rfl, by decide, ?_⟩
      rw [em]
      refine jcall c200 ?_
      refine jcallP c209 ?_
      rintro o h3 ⟨e3, iv, rfl, i0, i1, i2⟩
      have e3' := e3.symm
      subst e3'
      have hmul : 0 ≤ mm % (g.1.natAbs : Int) * iv ∧ mm % (g.1.natAbs : Int) * iv ≤ 13000000 * 13000000 := ⟨Int.mul_nonneg q0 i0, Int.le_trans (Int.mul_le_mul (c := 13000000) (d := 13000000) (by omega) (by omega) i0 (by decide)) (by decide)⟩
      have c200b := ct_200 G (x := mm % (g.1.natAbs : Int) * iv) (y := (g.1.natAbs : Int)) (by omega) (by omega) (by omega) (by omega) h'
      rw [← jL_mul] at c200b
      refine jcall c200b ?_
      obtain ⟨e', he'⟩ := md_e hmm i2
      have z0 : 0 ≤ mm % (g.1.natAbs : Int) * iv % (g.1.natAbs : Int) := Int.emod_nonneg _ (by omega)
      have z1 : mm % (g.1.natAbs : Int) * iv % (g.1.natAbs : Int) < (g.1.natAbs : Int) := Int.emod_lt_of_pos _ (by omega)
      exact r71 _ e' _ _ _ _ _ _ _ he' (by omega) rfl
    intro x9 x10 x11 x12 x13 x14 x15 x16
    have c196 := ct_196 G (x := g.1) (by omega) (by omega) h'
    rw [← hm.1] at c196
    refine hR 60 18 _ _ _ _ _ _ rfl ?_
    refine ⟨L'.K 1412 rfl, jcall c196 ?_⟩
    exact r41 _ _ _ _ _ _ _ rfl
  have r27 : ∀ (h' : mj_H), isMm h' g0 → FrM noT jF noT h h' → ∀ (x9 x10 x11 x12 x13 x14 x15 x16 : Option Value), Run 27 (l204 (jI x.val) (jI y.val) (jL f.1) (jL f.2.1) (jL f.2.2) x9 x10 x11 x12 x13 x14 x15 x16) [] h' (0, 0) := by
    intro h' hm F' x9 x10 x11 x12 x13 x14 x15 x16
    have L' := F'.lay L
    have c206 := ct_206 G L' hm q0b (n := f.1) (by omega) hy0 hk0 hex
    refine hR 60 15 _ _ _ _ _ _ rfl ?_
    refine ⟨L'.K 1412 rfl, jcallP c206 ?_⟩
    rintro o h3 ⟨rfl, ⟨g, a1, a2, a3⟩, F3⟩
    exact mid h3 g a1 a2 a3 (F'.trans F3) _ _ _ _ _ _ _ _
  have r22 : ∀ (h' : mj_H), FrM noT jF noT h h' → ∀ (x9 x10 x11 x12 x13 x14 x15 x16 : Option Value), Run 22 (l204 (jI x.val) (jI y.val) (jL f.1) (jL f.2.1) (jL f.2.2) x9 x10 x11 x12 x13 x14 x15 x16) [] h' (0, 0) := by
    intro h' F' x9 x10 x11 x12 x13 x14 x15 x16
    have L' := F'.lay L
    have hT' := hT.M F' ⟨fun z => z, fun z => z⟩ (by omega) (fun _ _ z => z)
    refine hR 60 12 _ _ _ _ _ _ rfl ?_
    refine ⟨L'.K 1412 rfl, jcallP (ct_205 G L' hT'.1 hT'.2.1 hT'.2.2 (by omega) y.isLt hcnt m2 nz.2) ?_⟩
    rintro o h3 ⟨rfl, m3, F3⟩
    exact r27 h3 (hg0 ▸ m3) (F'.trans F3) _ _ _ _ _ _ _ _
  have r16 : ∀ (h' : mj_H), isMm h' f → FrM noT jF noT h h' → ∀ (x7 x8 x9 x10 x11 x12 x13 x14 x15 x16 : Option Value), Run 16 [some (.ref 1412), some (.int (jI x.val)), some (.int (jI y.val)), some (.long (jL f.1)), none, some (.long (jL f.2.1)), none, x7, x8, x9, x10, x11, x12, x13, x14, x15, x16] [] h' (0, 0) := by
    intro h' hm F' x7 x8 x9 x10 x11 x12 x13 x14 x15 x16
    refine hR 60 9 _ _ _ _ _ _ rfl ?_
    refine ⟨(F'.lay L).K 1412 rfl, ?_⟩
    rw [hm.2.2]
    exact r22 h' F' _ _ _ _ _ _ _ _
  have r5 : ∀ (h' : mj_H), isMm h' f → FrM noT jF noT h h' → ∀ (x3 x4 x5 x6 x7 x8 x9 x10 x11 x12 x13 x14 x15 x16 : Option Value), Run 5 [some (.ref 1412), some (.int (jI x.val)), some (.int (jI y.val)), x3, x4, x5, x6, x7, x8, x9, x10, x11, x12, x13, x14, x15, x16] [] h' (0, 0) := by
    intro h' hm F' x3 x4 x5 x6 x7 x8 x9 x10 x11 x12 x13 x14 x15 x16
    refine hR 60 3 _ _ _ _ _ _ rfl ?_
    refine ⟨(F'.lay L).K 1412 rfl, ?_⟩
    rw [hm.1]
    refine ⟨(F'.lay L).K 1412 rfl, ?_⟩
    rw [hm.2.1]
    exact r16 h' hm F' _ _ _ _ _ _ _ _ _ _
  refine hR 60 0 _ _ _ _ _ _ rfl ?_
  refine ⟨L.K 1412 rfl, jcallP (ct_205 G L hT.1 hT.2.1 hT.2.2 (by omega) x.isLt hcnt m1 nz.1) ?_⟩
  rintro o h3 ⟨rfl, m3, F3⟩
  exact r5 h3 (hf ▸ m3) F3 _ _ _ _ _ _ _ _ _ _ _ _ _ _
end
