/-! a family above 0: house and model find the same solution -/
theorem big_n4 : (1606938044258990275541962092341162602522202993782792835301376 * (2 ^ 15700 * 2 ^ 15700) : Nat) < 4294967296 ^ 1024 := by decide +kernel
theorem big_n5 : (1606938044258990275541962092341162602522202993782792835301376 * (2 ^ 15700 * 2 ^ 15700) : Nat) < 65536 ^ 2170 := by decide +kernel
theorem big4 {s : Nat} (h : s ≤ 2 ^ 15700) : 1606938044258990275541962092341162602522202993782792835301376 * (s * s) < 4294967296 ^ 1024 := by
  have h1 := big_n4
  have h2 := Nat.mul_le_mul h h
  generalize (4294967296 ^ 1024 : Nat) = X at *
  generalize (2 ^ 15700 * 2 ^ 15700 : Nat) = Y at *
  omega
theorem big5 {s : Nat} (h : s ≤ 2 ^ 15700) : ((1606938044258990275541962092341162602522202993782792835301376 * (s * s) : Nat) : Int) < pB 2170 := by
  have h1 := big_n5
  have h2 := Nat.mul_le_mul h h
  rw [pB_cast]
  generalize (65536 ^ 2170 : Nat) = X at *
  generalize (2 ^ 15700 * 2 ^ 15700 : Nat) = Y at *
  omega
theorem rn_it {d w : Int} (hn : nsq d) (hd0 : 0 < d) (hw : isWd d w) {g : Fm} (hD : dF g = d) (hr : Red g) {N : Nat} (hN : isRn d w g N) : ∀ p, isRn d w (itF d w p g) N
  | 0 => hN
  | p + 1 => by
    obtain ⟨D, R⟩ := itF_red hn hd0 hw p g hD hr
    rw [itF_succ]
    exact rn_nx hn hd0 hw D R (rn_it hn hd0 hw hD hr hN p)
theorem au_bdE {f : Fm} {d t u : Int} {s : Nat} (hD : dF f = d) (hu : isUu d t u) (hs : (s : Int) = t + 1) (hf : cfB f 1073741824) : bdE (auM f t u) (2147483648 * s) := by
  obtain ⟨hp, t0, u0, ut, -, -⟩ := hu
  obtain ⟨o1, o2, o3⟩ := hf
  have bu : (f.2.1 * u).natAbs ≤ 1073741824 * u.natAbs := by
    rw [Int.natAbs_mul]
    exact Nat.mul_le_mul_right _ o2
  have cu : (-f.2.2 * u).natAbs ≤ 1073741824 * u.natAbs := by
    rw [Int.natAbs_mul, Int.natAbs_neg]
    exact Nat.mul_le_mul_right _ o3
  have au : (f.1 * u).natAbs ≤ 1073741824 * u.natAbs := by
    rw [Int.natAbs_mul]
    exact Nat.mul_le_mul_right _ o1
  refine ⟨?_, ?_, ?_, ?_⟩
  · show ((t - f.2.1 * u) / 2).natAbs ≤ _
    omega
  · show (-f.2.2 * u).natAbs ≤ _
    omega
  · show (f.1 * u).natAbs ≤ _
    omega
  · show ((t + f.2.1 * u) / 2).natAbs ≤ _
    omega
/-- steps of a ring have other signs in turn -/
theorem tn_alt {d w : Int} (hn : nsq d) (hd0 : 0 < d) (hw : isWd d w) {g : Fm} (hD : dF g = d) (hr : Red g) (i : Nat) : tnF d w g i * tnF d w g (i + 1) < 0 := by
  obtain ⟨D, R⟩ := itF_red hn hd0 hw i g hD hr
  obtain ⟨D', R'⟩ := itF_red hn hd0 hw (i + 1) g hD hr
  obtain ⟨h1, h2, h3⟩ := tn_sg hn hd0 hw D R
  obtain ⟨k1, -, -⟩ := tn_sg hn hd0 hw D' R'
  rw [itF_succ] at k1
  unfold tnF
  rw [itF_succ]
  generalize nkE d w (itF d w i g).2.1 (itF d w i g).2.2 = k at *
  generalize nkE d w (nx d w (itF d w i g)).2.1 (nx d w (itF d w i g)).2.2 = k' at *
  generalize (itF d w i g).2.2 = c at *
  generalize (nx d w (itF d w i g)).2.2 = c' at *
  have e : (c * c') * (k * k') = (c * k) * (c' * k') := by grind
  have h4 : 0 < (c * k) * (c' * k') := Int.mul_pos h1 k1
  rcases Int.lt_or_le (k * k') 0 with z | z
  · exact z
  · have := Int.mul_nonpos_of_nonpos_of_nonneg (Int.le_of_lt h2) z
    omega
theorem tn_per {d w : Int} {g : Fm} {r : Nat} (hN : isRn d w g r) (i : Nat) : tnF d w g (r + i) = tnF d w g i := by
  rw [← tnF_add, hN.2.1]
theorem alt_back {d w : Int} (hn : nsq d) (hd0 : 0 < d) (hw : isWd d w) {g : Fm} (hD : dF g = d) (hr : Red g) {r : Nat} (hN : isRn d w g r) {a : Nat} (ha : a < r) (i : Nat) : tnF d w g (bpR r (i + 1) a) * tnF d w g (bpR r (i + 1 + 1) a) < 0 := by
  have r0 := hN.1
  have h1 := bpR_lt r r0 (i + 1) a ha
  rw [bpR_suc r (i + 1) a]
  generalize bpR r (i + 1) a = q at *
  unfold pvR
  split
  · rename_i c
    subst c
    have := tn_alt hn hd0 hw hD hr (r - 1)
    rw [show r - 1 + 1 = r + 0 by omega, tn_per hN, Int.mul_comm] at this
    exact this
  · have := tn_alt hn hd0 hw hD hr (q - 1)
    rw [show q - 1 + 1 = q by omega, Int.mul_comm] at this
    exact this
theorem alt_on {d w : Int} (hn : nsq d) (hd0 : 0 < d) (hw : isWd d w) {g : Fm} (hD : dF g = d) (hr : Red g) {r : Nat} (hN : isRn d w g r) {a : Nat} (ha : a < r) (i : Nat) : tnF d w g (npR r i a) * tnF d w g (npR r (i + 1) a) < 0 := by
  have r0 := hN.1
  have h1 := npR_lt r r0 i a ha
  rw [npR_suc r i a]
  generalize npR r i a = q at *
  unfold nxR
  split
  · rename_i c
    have := tn_alt hn hd0 hw hD hr q
    rw [c, show r = r + 0 by omega, tn_per hN] at this
    exact this
  · exact tn_alt hn hd0 hw hD hr q
section
variable {d w : Int} {n : Nat} {A : Nat → pI} {nxt : Nat → Nat} {cls : Nat → Int} {cnt : Nat} {nm : Nat → Nat}
/-- the orbit by both ways -/
theorem orb_both (hn : nsq d) (hd0 : 0 < d) (hw : isWd d w) {F g0 : Fm} {e r p : Nat} (hF : dF F = d) (hg0 : g0 = itF d w e F) (hV0 : Vld d g0) (hr : Red g0) (hN : isRn d w g0 r) {t u : Int} (hu : isPu d t u) (zz : xI) (hz : mv (mm (itM d w e F I2) (itM d w p g0 I2)) zz ≠ (0, 0)) (j : Int) : ∃ ε : Int, (ε = 1 ∨ ε = -1) ∧ mm (itM d w e F I2) (mm (zpM (itM d w r g0 I2) j) (itM d w p g0 I2)) = sgM ε (mm (zpM (auM F t u) j) (mm (itM d w e F I2) (itM d w p g0 I2))) := by
  obtain ⟨e1, he1, hU⟩ := ring_unit hn hd0 hw hu hV0 hr hN
  have hM0 := itM_det (d := d) (w := w) F e
  have hac : acM F (itM d w e F I2) = g0 := by rw [hg0]; exact itM_ac hn hF e
  have hconj := auM_conj (f := F) (m := itM d w e F I2) hF hu.2.2.1 hM0
  rw [hac] at hconj
  have hz2 := zp_conj (auM_det hF hu.2.2.1) (auM_det hV0.1 hu.2.2.1) hconj j
  obtain ⟨ε, hε, hzp⟩ := zp_sg he1 (auM g0 t u) j
  refine ⟨ε, hε, ?_⟩
  rw [hU, hzp, sgM_mm, mm_sgM]
  congr 1
  rw [← mm_assoc, ← hz2, mm_assoc]
end
