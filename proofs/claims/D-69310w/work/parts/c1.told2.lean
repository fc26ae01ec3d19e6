/-! more operations that tell -/
section
variable {d w : Int} {n : Nat} {A : Nat → pI} {nxt : Nat → Nat} {cls : Nat → Int} {cnt : Nat} {nm : Nat → Nat}
variable {xs : Nat → Int32} {Ln : Nat} {T : isTF d w n A nxt cls cnt nm} {ord : Fin cnt → Nat} {st : gS cnt} {ps : List Nat} {t u x6 x7 mn : Int} {f : Fm} {e c s1 s2 r wl : Nat} {fs : List Fam} {nb : Int} {ts : List Nat}
variable {G : mj_G} {I : mj_H → Prop} {h : mj_H}
theorem op_110 (hwd : wdP d w) (hI0 : ∀ h', isSt xs Ln T ord st ps t u x6 x7 mn f e c s1 s2 r wl fs nb ts h' → I h') (hs : isSt xs Ln T ord st ps t u x6 x7 mn f e c s1 s2 r wl fs nb ts h) (p : Int32) : op1 G I Ln xs 110 268 [.int p] h := by
  obtain ⟨i, rfl, hi⟩ := int_ex p
  have c1 := ct_111 G hs.2.1 T hs.2.2.2.2.1.1.1 hi
  have c2 := fun h1 (s1' : isSt xs Ln T ord st ps t u x6 x7 mn f e c s1 s2 r wl fs nb ts h1) => ct_268 G s1'.2.2.1 T hwd s1'.2.2.2.2.2.1.1 hi
  by_cases z : 0 ≤ i ∧ i < cnt
  · obtain ⟨y0, hy0⟩ := (gpC T).2.2.2 ⟨i.toNat, by omega⟩
    refine op_of (kd := 81) (ok := 0 ≤ i ∧ i < cnt) (v := (y0.val : Nat)) hI0 hs idleGt (fun Q c hQ => ct_110 G (hs.2.1.K 1 rfl) c hQ) (mj_Ct_mono c1 (fun o h' q => ⟨fun y => ?_, q.2⟩)) (fun h1 s1' => mj_Ct_mono (c2 h1 s1') (fun o h' q => ⟨fun y => ?_, q.2⟩))
    · obtain ⟨y1, hy1, hq⟩ := q.1 y
      rw [gp_cancel (gpC T) (hy0.trans hy1.symm)]
      exact hq
    · obtain ⟨y1, hy1, hq⟩ := q.1 y
      rw [gp_cancel (gpC T) (hy0.trans hy1.symm)]
      exact hq
  · exact op_of (kd := 81) (ok := 0 ≤ i ∧ i < cnt) (v := 0) hI0 hs idleGt (fun Q c hQ => ct_110 G (hs.2.1.K 1 rfl) c hQ) (mj_Ct_mono c1 (fun o h' q => ⟨fun y => absurd y z, q.2⟩)) (fun h1 s1' => mj_Ct_mono (c2 h1 s1') (fun o h' q => ⟨fun y => absurd y z, q.2⟩))
/-- what count tells -/
def cvF (d : Int) (cnt n one : Nat) (g4 : Int) (gl pl : Nat) (mn : Int) (c wl e fl : Nat) (nb : Int) (tl : Nat) : Nat → Int
  | 0 => d
  | 1 => cnt
  | 2 => gl
  | 3 => one
  | 4 => g4
  | 5 => n
  | 6 => pl
  | 7 => if 0 < d then -1 else if d = -3 then 6 else if d = -4 then 4 else 2
  | 8 => mn
  | 9 => c
  | 10 => wl
  | 11 => e
  | 12 => fl
  | 13 => nb
  | _ => tl
theorem op_cnt (hmn : x7.sign = mn ∧ (mn = 0 ∨ mn = 1)) (hwl : (s1 : Int) + s2 = (wl : Nat)) (hI0 : ∀ h', isSt xs Ln T ord st ps t u x6 x7 mn f e c s1 s2 r wl fs nb ts h' → I h') (hs : isSt xs Ln T ord st ps t u x6 x7 mn f e c s1 s2 r wl fs nb ts h) (p : Int32) : opC G I Ln xs p h := by
  obtain ⟨x, rfl, hx⟩ := int_ex p
  obtain ⟨-, L, M, -, ⟨⟨b1, b2, b3, b4, ⟨b5, b6, b7, b8⟩, -⟩, ⟨-, -, -, i8, i9, i10⟩, ⟨f1, f2, f3, -⟩, ⟨⟨tc, -⟩, -⟩, -⟩, ⟨⟨a1, a2, a3, a4⟩, ⟨-, -, -, -, n5⟩, ⟨-, ⟨q1, q2, q3⟩, -⟩, -, ⟨g1, g2, -⟩, ⟨te, -⟩, -⟩⟩ := id hs
  have hd := T.1.2.2.1
  have h8 := b2.2.2.1.2.1
  obtain ⟨g4, hg⟩ : ∃ g4 : Int, (st.2.2.length = 0 → g4 = 1) ∧ (st.2.2.length ≠ 0 → ∃ g : Fin cnt, st.2.2[0]? = some g ∧ g4 = (ord g : Nat)) := by
    by_cases z : st.2.2.length = 0
    · exact ⟨1, fun _ => rfl, fun y => absurd z y⟩
    · obtain ⟨g, hg⟩ : ∃ g, st.2.2[0]? = some g := ⟨st.2.2[0]'(by omega), List.getElem?_eq_getElem (by omega)⟩
      exact ⟨(ord g : Nat), fun y => absurd y z, fun _ => ⟨g, hg, rfl⟩⟩
  have hcb := T.1.2.2.2.2.2.1
  have e7 := b8.sg
  rw [hmn.1] at e7
  have vC : cnC h d (cvF d cnt n (oneC T).val g4 st.2.2.length ps.length mn c wl e fs.length nb ts.length) := by
    refine ⟨⟨b1.2.2.2.1, rfl, b1.2.1.1, b3.1, b1.1.1, b4.1⟩, ⟨b2.1, by show (0 : Int) ≤ (st.2.2.length : Nat) ∧ ((st.2.2.length : Nat) : Int) ≤ 8; omega, fun y => ?_, fun y => ?_⟩, rfl, e7, i8, ?_, i9, f2, f1, tc⟩
    · have y' : ((st.2.2.length : Nat) : Int) = 0 := y
      exact hg.1 (by omega)
    · have y' : ((st.2.2.length : Nat) : Int) ≠ 0 := y
      obtain ⟨g, hg1, hg2⟩ := hg.2 (by omega)
      refine ⟨g.val, by have := g.isLt; omega, b2.2.2.2.2.2.2 0 g hg1, ?_⟩
      show hI h 61 g.val = jI g4
      rw [hg2]
      exact b3.2 g
    · show hI h 1 10 = jI ((wl : Nat) : Int)
      rw [i10, hwl]
  have vM : cnP h d (cvF d cnt n (oneC T).val g4 st.2.2.length ps.length mn c wl e fs.length nb ts.length) := by
    refine ⟨⟨a1.2.2.1, rfl, a1.2.1.1, a2.1, a1.1.1, a4.1⟩, ⟨a3.1, by show (0 : Int) ≤ (st.2.2.length : Nat) ∧ ((st.2.2.length : Nat) : Int) ≤ 8; omega, fun y => ?_, fun y => ?_⟩, rfl, ⟨n5, hmn.2⟩, q1, q3, q2, g2, g1, te⟩
    · have y' : ((st.2.2.length : Nat) : Int) = 0 := y
      exact hg.1 (by omega)
    · have y' : ((st.2.2.length : Nat) : Int) ≠ 0 := y
      obtain ⟨g, hg1, hg2⟩ := hg.2 (by omega)
      refine ⟨g.val, by have := g.isLt; omega, a3.2.2.2.2.2.2 0 g hg1, ?_⟩
      show hI h 1417 g.val = jI g4
      rw [hg2]
      exact a2.2 g
  refine ⟨_, ct_96 G L (by omega) vC hx, _, ct_265 G M (by omega) vM hx, ?_⟩
  rintro o2 h2 ⟨e1, e2, F⟩
  exact ⟨e1, hI0 _ (hs.code F)⟩
end
