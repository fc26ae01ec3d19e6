/-! where all cells lie -/
abbrev lyE : Type := Nat × Nat × List (Nat × Nat)
def lyA : List lyE := [(7, 0, []), (10, 0, [(0, 2), (1, 46), (2, 52), (3, 67), (4, 69), (5, 85), (6, 97), (7, 98), (11, 99), (12, 112), (13, 113), (14, 114), (15, 127), (16, 128), (17, 129), (20, 130), (21, 131)]), (11, 0, [(0, 3), (1, 7), (2, 8), (3, 21), (4, 22), (5, 23), (6, 25), (7, 27), (8, 29)]), (12, 0, [(0, 4), (2, 5), (3, 6)]), (1, 2048, []), (1, 1025, []), (1, 1024, []), (13, 0, []), (14, 0, []), (15, 0, [(0, 10)]), (1, 1024, []), (15, 0, [(0, 12)]), (1, 1024, []), (15, 0, [(0, 14)]), (1, 1024, []), (15, 0, [(0, 16)]), (1, 1024, []), (15, 0, [(0, 18)]), (1, 1024, []), (15, 0, [(0, 20)]), (1, 1024, []), (16, 0, []), (16, 0, []), (15, 0, [(0, 24)]), (1, 1024, []), (15, 0, [(0, 26)]), (1, 1024, []), (15, 0, [(0, 28)]), (1, 1024, []), (5, 8, [(0, 30), (1, 32), (2, 34), (3, 36), (4, 38), (5, 40), (6, 42), (7, 44)]), (15, 0, [(0, 31)]), (1, 1024, [])]
def lyB : List lyE := [(15, 0, [(0, 33)]), (1, 1024, []), (15, 0, [(0, 35)]), (1, 1024, []), (15, 0, [(0, 37)]), (1, 1024, []), (15, 0, [(0, 39)]), (1, 1024, []), (15, 0, [(0, 41)]), (1, 1024, []), (15, 0, [(0, 43)]), (1, 1024, []), (15, 0, [(0, 45)]), (1, 1024, []), (17, 0, [(0, 7), (2, 47), (3, 48), (4, 49), (6, 50), (7, 51)]), (1, 40960, []), (1, 40960, []), (3, 40960, []), (1, 4096, []), (16, 0, []), (18, 0, [(0, 46), (1, 53), (2, 58), (3, 59), (4, 60), (6, 61), (8, 62), (10, 63), (11, 64), (12, 65), (13, 66)]), (19, 0, [(0, 7), (1, 54), (2, 55), (3, 56), (4, 57)]), (20, 0, []), (20, 0, []), (16, 0, []), (16, 0, []), (16, 0, []), (16, 0, []), (16, 0, []), (3, 4096, []), (1, 8, []), (3, 4096, [])]
def lyC : List lyE := [(4, 4096, []), (3, 32768, []), (3, 4096, []), (21, 0, [(1, 68)]), (1, 8, []), (22, 0, [(0, 70), (1, 73), (2, 77), (4, 78), (5, 79), (6, 80), (7, 81), (8, 82), (9, 83), (10, 84)]), (23, 0, [(2, 71), (3, 72)]), (1, 8, []), (1, 8, []), (24, 0, []), (1, 4096, []), (1, 4096, []), (1, 4096, []), (16, 0, []), (1, 8192, []), (1, 8192, []), (2, 8192, []), (2, 8192, []), (2, 8192, []), (2, 8192, []), (4, 8192, []), (25, 0, [(0, 86), (1, 88), (2, 90), (3, 92)]), (15, 0, [(0, 87)]), (1, 1024, []), (15, 0, [(0, 89)]), (1, 1024, []), (15, 0, [(0, 91)]), (1, 1024, []), (26, 0, [(0, 93), (1, 95)]), (15, 0, [(0, 94)]), (1, 1024, []), (15, 0, [(0, 96)])]
def lyD : List lyE := [(1, 1024, []), (16, 0, []), (16, 0, []), (14, 0, []), (15, 0, [(0, 101)]), (1, 1024, []), (15, 0, [(0, 103)]), (1, 1024, []), (15, 0, [(0, 105)]), (1, 1024, []), (15, 0, [(0, 107)]), (1, 1024, []), (15, 0, [(0, 109)]), (1, 1024, []), (15, 0, [(0, 111)]), (1, 1024, []), (16, 0, []), (16, 0, []), (14, 0, []), (15, 0, [(0, 116)]), (1, 1024, []), (15, 0, [(0, 118)]), (1, 1024, []), (15, 0, [(0, 120)]), (1, 1024, []), (15, 0, [(0, 122)]), (1, 1024, []), (15, 0, [(0, 124)]), (1, 1024, []), (15, 0, [(0, 126)]), (1, 1024, []), (6, 256, []), (1, 256, []), (1, 256, []), (4, 4096, []), (3, 4096, [])]
def lyM : List lyE := [(27, 0, [(4, 1413), (5, 1414), (6, 1415), (8, 1416), (9, 1417), (10, 1418), (11, 1419), (13, 1420), (16, 1421), (18, 1422), (25, 1423), (28, 1424), (29, 1425), (30, 1426), (32, 1427), (33, 1428), (36, 1429), (37, 1430), (38, 1431), (39, 1432), (41, 1433), (42, 1434), (43, 1435), (44, 1436), (45, 1437), (46, 1438), (47, 1439), (49, 1440)]), (1, 40960, []), (1, 40960, []), (1, 40960, []), (1, 4096, []), (1, 4096, []), (1, 32768, []), (4, 4096, []), (1, 4096, []), (1, 8, []), (2, 8, []), (2, 200, []), (1, 40960, []), (1, 40960, []), (1, 40960, []), (1, 4096, []), (4, 4096, []), (1, 256, []), (1, 256, []), (1, 512, []), (1, 262144, []), (1, 256, []), (1, 256, []), (1, 512, []), (1, 262144, []), (2, 256, []), (2, 256, []), (1, 16500, []), (1, 11000, []), (2, 1, [])]
def lyP (a : Nat) : lyE := match (a - 132) % 5 with
  | 0 => (26, 0, [(0, a + 1), (1, a + 3)])
  | 1 => (15, 0, [(0, a + 1)])
  | 2 => (1, 1024, [])
  | 3 => (15, 0, [(0, a + 1)])
  | _ => (1, 1024, [])
def lyAt (a : Nat) : lyE := match Nat.blt a 132, Nat.blt a 64, Nat.blt a 32, Nat.blt a 96, Nat.blt a 1412 with
  | true, true, true, _, _ => lyA.getD a (0, 0, [])
  | true, true, false, _, _ => lyB.getD (a - 32) (0, 0, [])
  | true, false, _, true, _ => lyC.getD (a - 64) (0, 0, [])
  | true, false, _, false, _ => lyD.getD (a - 96) (0, 0, [])
  | false, _, _, _, true => lyP a
  | false, _, _, _, false => lyM.getD (a - 1412) (0, 0, [])
def lkp : List (Nat × Nat) → Nat → Option Nat
  | [], _ => none
  | (i, q) :: t, k => match Nat.beq i k with
    | true => some q
    | false => lkp t k
def lyRf (a k : Nat) : Option Nat := match Nat.beq a 127 with
  | true => match Nat.blt k 256 with
    | true => some (132 + 5 * k)
    | false => none
  | false => lkp (lyAt a).2.2 k
/-- all cells are where they were laid; the refs of matrices and of the roots may change -/
def lyRc (a k : Nat) : Option Nat := match Nat.blt a 1412 with
  | true => lyRf a k
  | false => none
/-- the cells of the house -/
def isLay (h : mj_H) : Prop := (∀ a, a < 1412 → hK h a = (lyAt a).1 ∧ (a = 0 ∨ hN h a = (lyAt a).2.1)) ∧ ∀ a k q, lyRc a k = some q → hR h a k = some q
theorem isLay.K {h : mj_H} (L : isLay h) (a : Nat) (ha : Nat.blt a 1412 = true) : hK h a = (lyAt a).1 := (L.1 a (Nat.le_of_ble_eq_true ha)).1
theorem isLay.N {h : mj_H} (L : isLay h) (a : Nat) (ha : Nat.blt a 1411 = true) : hN h (a + 1) = (lyAt (a + 1)).2.1 := by
  rcases (L.1 (a + 1) (by have := Nat.le_of_ble_eq_true ha; omega)).2 with e | e
  · omega
  · exact e
theorem isLay.R {h : mj_H} (L : isLay h) (a k q : Nat) (e : lyRc a k = some q) : hR h a k = some q := L.2 a k q e
theorem isLay.F {S T : Nat → Prop} {h h' : mj_H} (f : Fr S T h h') (L : isLay h) (ht : ∀ a, T a → a = 8 ∨ a = 99 ∨ a = 114 ∨ a = 73) : isLay h' := by
  refine ⟨fun a ha => ⟨(f.K a).trans (L.1 a ha).1, ?_⟩, fun a k q e => ?_⟩
  · rcases (L.1 a ha).2 with g | g
    · exact Or.inl g
    · exact Or.inr ((f.N a).trans g)
  · by_cases g : T a
    · exfalso
      rcases ht a g with rfl | rfl | rfl | rfl <;> (have z : (none : Option Nat) = some q := e; cases z)
    · exact (f.R g k).trans (L.2 a k q e)
def wOk (w : Nat) : Bool := Nat.beq (lyAt w).1 15 && Nat.beq (lyAt (w + 1)).1 1 && Nat.beq (lyAt (w + 1)).2.1 1024 && (match lyRc w 0 with | some q => Nat.beq q (w + 1) | none => false) && Nat.blt 6 w && Nat.blt (w + 1) 1412
theorem isLay.W {h : mj_H} (L : isLay h) (w : Nat) (e : wOk w = true) : isW0 h w := by
  unfold wOk at e
  simp only [Bool.and_eq_true] at e
  obtain ⟨⟨⟨⟨⟨e1, e2⟩, e3⟩, e4⟩, e5⟩, e6⟩ := e
  have g1 := Nat.le_of_ble_eq_true e6
  have g2 := Nat.le_of_ble_eq_true e5
  refine ⟨(L.1 w (by omega)).1.trans (Nat.eq_of_beq_eq_true e1), ?_, (L.1 (w + 1) (by omega)).1.trans (Nat.eq_of_beq_eq_true e2), ?_, by omega⟩
  · cases hq : lyRc w 0 with
    | none => rw [hq] at e4; exact Bool.noConfusion e4
    | some q =>
      rw [hq] at e4
      have : q = w + 1 := Nat.eq_of_beq_eq_true e4
      rw [← this]
      exact L.2 w 0 q hq
  · rcases (L.1 (w + 1) (by omega)).2 with g | g
    · omega
    · exact g.trans (Nat.eq_of_beq_eq_true e3)
theorem isLay.Rk {h : mj_H} (L : isLay h) : isRk h := ⟨L.K 3 rfl, L.R 3 0 4 rfl, L.K 4 rfl, L.N 3 rfl, L.R 3 2 5 rfl, L.K 5 rfl, L.N 4 rfl, L.R 3 3 6 rfl, L.K 6 rfl, L.N 5 rfl⟩
/-- the cells of the model -/
def isLam (h : mj_H) : Prop := (∀ a, 1412 ≤ a → a < 1441 → hK h a = (lyAt a).1 ∧ hN h a = (lyAt a).2.1) ∧ ∀ k q, lyRf 1412 k = some q → hR h 1412 k = some q
theorem isLam.K {h : mj_H} (L : isLam h) (a : Nat) (ha : (Nat.ble 1412 a && Nat.blt a 1441) = true) : hK h a = (lyAt a).1 := by
  rw [Bool.and_eq_true] at ha
  exact (L.1 a (Nat.le_of_ble_eq_true ha.1) (Nat.le_of_ble_eq_true ha.2)).1
theorem isLam.N {h : mj_H} (L : isLam h) (a : Nat) (ha : (Nat.ble 1411 a && Nat.blt a 1440) = true) : hN h (a + 1) = (lyAt (a + 1)).2.1 := by
  rw [Bool.and_eq_true] at ha
  have h1 := Nat.le_of_ble_eq_true ha.1
  have h2 := Nat.le_of_ble_eq_true ha.2
  exact (L.1 (a + 1) (by omega) (by omega)).2
theorem isLam.R {h : mj_H} (L : isLam h) (a k q : Nat) (e : (match Nat.beq a 1412 with | true => lyRf 1412 k | false => none) = some q) : hR h a k = some q := by
  cases g : Nat.beq a 1412 with
  | true =>
    rw [g] at e
    have := Nat.eq_of_beq_eq_true g
    subst this
    exact L.2 k q e
  | false =>
    rw [g] at e
    cases e
theorem isLam.F {S T : Nat → Prop} {h h' : mj_H} (f : Fr S T h h') (L : isLam h) (ht : ∀ a, T a → a = 8 ∨ a = 99 ∨ a = 114 ∨ a = 73) : isLam h' := ⟨fun a h1 h2 => ⟨(f.K a).trans (L.1 a h1 h2).1, (f.N a).trans (L.1 a h1 h2).2⟩, fun k q e => (f.R (fun z => by have := ht _ z; omega) k).trans (L.2 k q e)⟩
theorem isLam.fr {h h' : mj_H} (L : isLam h) (e : h'.2 = h.2) : isLam h' := L.F (S := fun _ => True) (T := noT) ⟨by rw [e], fun _ z => absurd trivial z, fun a _ => by rw [e]⟩ (fun _ z => z.elim)
theorem isLam.Md {h : mj_H} (L : isLam h) : isMd h := ⟨L.K 1412 rfl, L.R 1412 47 1439 rfl, L.K 1439 rfl, L.N 1438 rfl, L.R 1412 49 1440 rfl, L.K 1440 rfl, L.N 1439 rfl⟩
