/-! the law's operations (printed by gen/law.py) -/
set_option maxRecDepth 20000 in
set_option maxHeartbeats 8000000 in
theorem law_c0 (G : mj_G) {I : mj_H → Prop} {Ln : Nat} {xs : Nat → Int32} (hi : lawI I Ln xs) (hLn : Ln ≤ 2048) {Run : mj_K} (hR : mj_closed G cx_law cd_law (fun o _ => o = .returned (some (.int (jI 1)))) Run) {p t bc bs : Nat} {h : mj_H} (hI' : I h) (hlt : 4 * t + 4 ≤ Ln) (hbc : p + 1 ≤ bc) (hbs : 6 * (p + 1) ≤ bs) (next : lawN I Run p t) (o9 : op1 G I Ln xs 97 224 [.int (xs (4 * t + 1))] h) : ∀ (x5 x6 : Option Value), Run 144 (lL (jI ((4 * t : Nat) : Int)) x5 x6) [] h (bc, bs) := by
  obtain ⟨⟨k0, n0, s0⟩, k1, k12, k41, n41⟩ := hi h hI'
  have vn := fun {h3 : mj_H} (j : Nat) (sc : scr xs Ln h3) (hj : j < 4) => sc_vn (t := t) hLn hlt j sc hj
  have rd := fun {h3 : mj_H} (j : Nat) (sc : scr xs Ln h3) (hj : j < 4) => sc_rd (t := t) hLn hlt j sc hj
  intro x5 x6
  obtain ⟨Pw, cw, hw⟩ := o9
  have cw' := cw
  rw [← rd (h3 := h) 1 ⟨k0, n0, s0⟩ (by decide)] at cw'
  refine hR 60 25 _ _ _ _ _ _ rfl ?_
  refine ⟨Or.inr k0, vn 1 ⟨k0, n0, s0⟩ (by decide), 1, 6, Pw, cw', by omega, by omega, fun o h1 q => ?_⟩
  obtain ⟨k, hk, e, sc, k12', Pm, cm, hm⟩ := hw o h1 q
  subst e
  rw [← rd (h3 := h1) 1 sc (by decide)] at cm
  have rE : ∀ (h2 : mj_H) (x6 : Option Value) (b1 b2 : Nat), I h2 → p ≤ b1 → 6 * p ≤ b2 → Run 197 (lL (jI ((4 * t : Nat) : Int)) (some (.int (jI k))) x6) [] h2 (b1, b2) := by
    intro h2 x6 b1 b2 hI2 hb1 hb2
    refine hR 60 59 _ _ _ _ _ _ rfl ?_
    exact next h2 _ _ _ _ hI2 hb1 hb2
  have rO : ∀ (h2 : mj_H) (b : Int32) (b1 b2 : Nat), I h2 → (k = 0 → hJ h2 1441 0 = b.toInt64) → p ≤ b1 → 6 * p ≤ b2 → Run 180 (lL (jI ((4 * t : Nat) : Int)) (some (.int (jI k))) (some (.int b))) [] h2 (b1, b2) := by
    intro h2 b b1 b2 hI2 hout hb1 hb2
    obtain ⟨-, -, -, q41, q42⟩ := hi h2 hI2
    refine hR 60 48 _ _ _ _ _ _ rfl ?_
    refine ⟨fun c => ⟨q41, by rw [q42]; exact jI_in (by omega) (by omega) (by omega), fun _ => rE h2 _ _ _ hI2 hb1 hb2, fun c2 => ?_⟩, fun c => rE h2 _ _ _ hI2 hb1 hb2⟩
    simp (disch := omega) only [mj_lcm, jI_lt, jI_le, jI_eq, jL_lt, jL_le, jL_eq, jI_lt0, jI_0le, jI_0lt, jI_le0, jI_eq0, jL_eq0, jI_L, jI_add, jI_sub, jI_mul, jI_neg, jL_add, jL_sub, jL_mul, jL_neg, jL_I, jI_div, jI_mod, jL_div, jL_mod] at c
    exact absurd (hout c) c2
  have rT : ∀ (h2 : mj_H) (b : Int32) (b1 b2 : Nat), I h2 → hI h2 1412 0 = jI k → (k = 0 → hJ h2 1441 0 = b.toInt64) → p ≤ b1 → 6 * p ≤ b2 → Run 169 (lL (jI ((4 * t : Nat) : Int)) (some (.int (jI k))) (some (.int b))) [] h2 (b1, b2) := by
    intro h2 b b1 b2 hI2 hcode hout hb1 hb2
    obtain ⟨-, -, q12, -, -⟩ := hi h2 hI2
    refine hR 60 42 _ _ _ _ _ _ rfl ?_
    exact ⟨q12, jcall (ct_223 G q12) ⟨fun _ => rO h2 b _ _ hI2 hout hb1 hb2, fun z => absurd hcode z⟩⟩
  have r6 : ∀ (h2 : mj_H) (b : Int32) (x6 : Option Value) (b1 b2 : Nat), I h2 → hI h2 1412 0 = jI k → (k = 0 → hJ h2 1441 0 = b.toInt64) → p ≤ b1 → 6 * p ≤ b2 → Run 167 (lL (jI ((4 * t : Nat) : Int)) (some (.int (jI k))) x6) [.int b] h2 (b1, b2) := by
    intro h2 b x6 b1 b2 hI2 hcode hout hb1 hb2
    refine hR 60 41 _ _ _ _ _ _ rfl ?_
    exact rT h2 b _ _ hI2 hcode hout hb1 hb2
  have rM : ∀ (x6 : Option Value) (b1 b2 : Nat), p ≤ b1 → 6 * p ≤ b2 → Run 157 (lL (jI ((4 * t : Nat) : Int)) (some (.int (jI k))) x6) [] h1 (b1, b2) := by
    intro x6 b1 b2 hb1 hb2
    refine hR 60 34 _ _ _ _ _ _ rfl ?_
    refine ⟨Or.inr sc.1, vn 1 sc (by decide), k12', jcallP cm ?_⟩
    intro o2 h2 q2
    obtain ⟨b, e, hI2, hcode, hout⟩ := hm o2 h2 q2
    subst e
    exact r6 h2 b _ _ _ hI2 hcode hout hb1 hb2
  have r5 : ∀ (x5 x6 : Option Value) (b1 b2 : Nat), p ≤ b1 → 6 * p ≤ b2 → Run 155 (lL (jI ((4 * t : Nat) : Int)) x5 x6) [.int (jI k)] h1 (b1, b2) := by
    intro x5 x6 b1 b2 hb1 hb2
    refine hR 60 33 _ _ _ _ _ _ rfl ?_
    exact rM _ _ _ hb1 hb2
  exact r5 _ _ _ _ (by omega) (by omega)
set_option maxRecDepth 20000 in
set_option maxHeartbeats 8000000 in
theorem law_c1 (G : mj_G) {I : mj_H → Prop} {Ln : Nat} {xs : Nat → Int32} (hi : lawI I Ln xs) (hLn : Ln ≤ 2048) {Run : mj_K} (hR : mj_closed G cx_law cd_law (fun o _ => o = .returned (some (.int (jI 1)))) Run) {p t bc bs : Nat} {h : mj_H} (hI' : I h) (hlt : 4 * t + 4 ≤ Ln) (hbc : p + 1 ≤ bc) (hbs : 6 * (p + 1) ≤ bs) (next : lawN I Run p t) (o1 : opC G I Ln xs (xs (4 * t + 1)) h) : ∀ (x5 x6 : Option Value), Run 200 (lL (jI ((4 * t : Nat) : Int)) x5 x6) [] h (bc, bs) := by
  obtain ⟨⟨k0, n0, s0⟩, k1, k12, k41, n41⟩ := hi h hI'
  have vn := fun {h3 : mj_H} (j : Nat) (sc : scr xs Ln h3) (hj : j < 4) => sc_vn (t := t) hLn hlt j sc hj
  have rd := fun {h3 : mj_H} (j : Nat) (sc : scr xs Ln h3) (hj : j < 4) => sc_rd (t := t) hLn hlt j sc hj
  intro x5 x6
  obtain ⟨b, cc, Pm, cm, hm⟩ := o1
  rw [← rd (h3 := h) 1 ⟨k0, n0, s0⟩ (by decide)] at cc cm
  refine hR 60 60 _ _ _ _ _ _ rfl ?_
  refine ⟨Or.inr k0, vn 1 ⟨k0, n0, s0⟩ (by decide), k1, jcall cc ⟨Or.inr k0, vn 1 ⟨k0, n0, s0⟩ (by decide), k12, jcallP cm ?_⟩⟩
  intro o2 h2 q
  obtain ⟨e, hI2⟩ := hm o2 h2 q
  subst e
  exact ⟨fun _ => next h2 _ _ _ _ hI2 (by omega) (by omega), fun z => absurd rfl z⟩
set_option maxRecDepth 20000 in
set_option maxHeartbeats 8000000 in
theorem law_c2 (G : mj_G) {I : mj_H → Prop} {Ln : Nat} {xs : Nat → Int32} (hi : lawI I Ln xs) (hLn : Ln ≤ 2048) {Run : mj_K} (hR : mj_closed G cx_law cd_law (fun o _ => o = .returned (some (.int (jI 1)))) Run) {p t bc bs : Nat} {h : mj_H} (hI' : I h) (hlt : 4 * t + 4 ≤ Ln) (hbc : p + 1 ≤ bc) (hbs : 6 * (p + 1) ≤ bs) (next : lawN I Run p t) (o9 : op1 G I Ln xs 102 266 [.int (xs (4 * t + 1)), .int (xs (4 * t + 2))] h) : ∀ (x5 x6 : Option Value), Run 225 (lL (jI ((4 * t : Nat) : Int)) x5 x6) [] h (bc, bs) := by
  obtain ⟨⟨k0, n0, s0⟩, k1, k12, k41, n41⟩ := hi h hI'
  have vn := fun {h3 : mj_H} (j : Nat) (sc : scr xs Ln h3) (hj : j < 4) => sc_vn (t := t) hLn hlt j sc hj
  have rd := fun {h3 : mj_H} (j : Nat) (sc : scr xs Ln h3) (hj : j < 4) => sc_rd (t := t) hLn hlt j sc hj
  intro x5 x6
  obtain ⟨Pw, cw, hw⟩ := o9
  have cw' := cw
  rw [← rd (h3 := h) 1 ⟨k0, n0, s0⟩ (by decide), ← rd (h3 := h) 2 ⟨k0, n0, s0⟩ (by decide)] at cw'
  refine hR 60 77 _ _ _ _ _ _ rfl ?_
  refine ⟨Or.inr k0, vn 1 ⟨k0, n0, s0⟩ (by decide), Or.inr k0, vn 2 ⟨k0, n0, s0⟩ (by decide), 1, 6, Pw, cw', by omega, by omega, fun o h1 q => ?_⟩
  obtain ⟨k, hk, e, sc, k12', Pm, cm, hm⟩ := hw o h1 q
  subst e
  rw [← rd (h3 := h1) 1 sc (by decide), ← rd (h3 := h1) 2 sc (by decide)] at cm
  have rE : ∀ (h2 : mj_H) (x6 : Option Value) (b1 b2 : Nat), I h2 → p ≤ b1 → 6 * p ≤ b2 → Run 290 (lL (jI ((4 * t : Nat) : Int)) (some (.int (jI k))) x6) [] h2 (b1, b2) := by
    intro h2 x6 b1 b2 hI2 hb1 hb2
    refine hR 60 121 _ _ _ _ _ _ rfl ?_
    exact next h2 _ _ _ _ hI2 hb1 hb2
  have rO : ∀ (h2 : mj_H) (b : Int32) (b1 b2 : Nat), I h2 → (k = 0 → hJ h2 1441 0 = b.toInt64) → p ≤ b1 → 6 * p ≤ b2 → Run 273 (lL (jI ((4 * t : Nat) : Int)) (some (.int (jI k))) (some (.int b))) [] h2 (b1, b2) := by
    intro h2 b b1 b2 hI2 hout hb1 hb2
    obtain ⟨-, -, -, q41, q42⟩ := hi h2 hI2
    refine hR 60 110 _ _ _ _ _ _ rfl ?_
    refine ⟨fun c => ⟨q41, by rw [q42]; exact jI_in (by omega) (by omega) (by omega), fun _ => rE h2 _ _ _ hI2 hb1 hb2, fun c2 => ?_⟩, fun c => rE h2 _ _ _ hI2 hb1 hb2⟩
    simp (disch := omega) only [mj_lcm, jI_lt, jI_le, jI_eq, jL_lt, jL_le, jL_eq, jI_lt0, jI_0le, jI_0lt, jI_le0, jI_eq0, jL_eq0, jI_L, jI_add, jI_sub, jI_mul, jI_neg, jL_add, jL_sub, jL_mul, jL_neg, jL_I, jI_div, jI_mod, jL_div, jL_mod] at c
    exact absurd (hout c) c2
  have rT : ∀ (h2 : mj_H) (b : Int32) (b1 b2 : Nat), I h2 → hI h2 1412 0 = jI k → (k = 0 → hJ h2 1441 0 = b.toInt64) → p ≤ b1 → 6 * p ≤ b2 → Run 262 (lL (jI ((4 * t : Nat) : Int)) (some (.int (jI k))) (some (.int b))) [] h2 (b1, b2) := by
    intro h2 b b1 b2 hI2 hcode hout hb1 hb2
    obtain ⟨-, -, q12, -, -⟩ := hi h2 hI2
    refine hR 60 104 _ _ _ _ _ _ rfl ?_
    exact ⟨q12, jcall (ct_223 G q12) ⟨fun _ => rO h2 b _ _ hI2 hout hb1 hb2, fun z => absurd hcode z⟩⟩
  have r6 : ∀ (h2 : mj_H) (b : Int32) (x6 : Option Value) (b1 b2 : Nat), I h2 → hI h2 1412 0 = jI k → (k = 0 → hJ h2 1441 0 = b.toInt64) → p ≤ b1 → 6 * p ≤ b2 → Run 260 (lL (jI ((4 * t : Nat) : Int)) (some (.int (jI k))) x6) [.int b] h2 (b1, b2) := by
    intro h2 b x6 b1 b2 hI2 hcode hout hb1 hb2
    refine hR 60 103 _ _ _ _ _ _ rfl ?_
    exact rT h2 b _ _ hI2 hcode hout hb1 hb2
  have rM : ∀ (x6 : Option Value) (b1 b2 : Nat), p ≤ b1 → 6 * p ≤ b2 → Run 244 (lL (jI ((4 * t : Nat) : Int)) (some (.int (jI k))) x6) [] h1 (b1, b2) := by
    intro x6 b1 b2 hb1 hb2
    refine hR 60 91 _ _ _ _ _ _ rfl ?_
    refine ⟨Or.inr sc.1, vn 1 sc (by decide), Or.inr sc.1, vn 2 sc (by decide), k12', jcallP cm ?_⟩
    intro o2 h2 q2
    obtain ⟨b, e, hI2, hcode, hout⟩ := hm o2 h2 q2
    subst e
    exact r6 h2 b _ _ _ hI2 hcode hout hb1 hb2
  have r5 : ∀ (x5 x6 : Option Value) (b1 b2 : Nat), p ≤ b1 → 6 * p ≤ b2 → Run 242 (lL (jI ((4 * t : Nat) : Int)) x5 x6) [.int (jI k)] h1 (b1, b2) := by
    intro x5 x6 b1 b2 hb1 hb2
    refine hR 60 90 _ _ _ _ _ _ rfl ?_
    exact rM _ _ _ hb1 hb2
  exact r5 _ _ _ _ (by omega) (by omega)
set_option maxRecDepth 20000 in
set_option maxHeartbeats 8000000 in
theorem law_c3 (G : mj_G) {I : mj_H → Prop} {Ln : Nat} {xs : Nat → Int32} (hi : lawI I Ln xs) (hLn : Ln ≤ 2048) {Run : mj_K} (hR : mj_closed G cx_law cd_law (fun o _ => o = .returned (some (.int (jI 1)))) Run) {p t bc bs : Nat} {h : mj_H} (hI' : I h) (hlt : 4 * t + 4 ≤ Ln) (hbc : p + 1 ≤ bc) (hbs : 6 * (p + 1) ≤ bs) (next : lawN I Run p t) (o9 : op1 G I Ln xs 108 267 [.int (xs (4 * t + 1)), .int (xs (4 * t + 2))] h) : ∀ (x5 x6 : Option Value), Run 293 (lL (jI ((4 * t : Nat) : Int)) x5 x6) [] h (bc, bs) := by
  obtain ⟨⟨k0, n0, s0⟩, k1, k12, k41, n41⟩ := hi h hI'
  have vn := fun {h3 : mj_H} (j : Nat) (sc : scr xs Ln h3) (hj : j < 4) => sc_vn (t := t) hLn hlt j sc hj
  have rd := fun {h3 : mj_H} (j : Nat) (sc : scr xs Ln h3) (hj : j < 4) => sc_rd (t := t) hLn hlt j sc hj
  intro x5 x6
  obtain ⟨Pw, cw, hw⟩ := o9
  have cw' := cw
  rw [← rd (h3 := h) 1 ⟨k0, n0, s0⟩ (by decide), ← rd (h3 := h) 2 ⟨k0, n0, s0⟩ (by decide)] at cw'
  refine hR 60 122 _ _ _ _ _ _ rfl ?_
  refine ⟨Or.inr k0, vn 1 ⟨k0, n0, s0⟩ (by decide), Or.inr k0, vn 2 ⟨k0, n0, s0⟩ (by decide), 1, 6, Pw, cw', by omega, by omega, fun o h1 q => ?_⟩
  obtain ⟨k, hk, e, sc, k12', Pm, cm, hm⟩ := hw o h1 q
  subst e
  rw [← rd (h3 := h1) 1 sc (by decide), ← rd (h3 := h1) 2 sc (by decide)] at cm
  have rE : ∀ (h2 : mj_H) (x6 : Option Value) (b1 b2 : Nat), I h2 → p ≤ b1 → 6 * p ≤ b2 → Run 358 (lL (jI ((4 * t : Nat) : Int)) (some (.int (jI k))) x6) [] h2 (b1, b2) := by
    intro h2 x6 b1 b2 hI2 hb1 hb2
    refine hR 60 166 _ _ _ _ _ _ rfl ?_
    exact next h2 _ _ _ _ hI2 hb1 hb2
  have rO : ∀ (h2 : mj_H) (b : Int32) (b1 b2 : Nat), I h2 → (k = 0 → hJ h2 1441 0 = b.toInt64) → p ≤ b1 → 6 * p ≤ b2 → Run 341 (lL (jI ((4 * t : Nat) : Int)) (some (.int (jI k))) (some (.int b))) [] h2 (b1, b2) := by
    intro h2 b b1 b2 hI2 hout hb1 hb2
    obtain ⟨-, -, -, q41, q42⟩ := hi h2 hI2
    refine hR 60 155 _ _ _ _ _ _ rfl ?_
    refine ⟨fun c => ⟨q41, by rw [q42]; exact jI_in (by omega) (by omega) (by omega), fun _ => rE h2 _ _ _ hI2 hb1 hb2, fun c2 => ?_⟩, fun c => rE h2 _ _ _ hI2 hb1 hb2⟩
    simp (disch := omega) only [mj_lcm, jI_lt, jI_le, jI_eq, jL_lt, jL_le, jL_eq, jI_lt0, jI_0le, jI_0lt, jI_le0, jI_eq0, jL_eq0, jI_L, jI_add, jI_sub, jI_mul, jI_neg, jL_add, jL_sub, jL_mul, jL_neg, jL_I, jI_div, jI_mod, jL_div, jL_mod] at c
    exact absurd (hout c) c2
  have rT : ∀ (h2 : mj_H) (b : Int32) (b1 b2 : Nat), I h2 → hI h2 1412 0 = jI k → (k = 0 → hJ h2 1441 0 = b.toInt64) → p ≤ b1 → 6 * p ≤ b2 → Run 330 (lL (jI ((4 * t : Nat) : Int)) (some (.int (jI k))) (some (.int b))) [] h2 (b1, b2) := by
    intro h2 b b1 b2 hI2 hcode hout hb1 hb2
    obtain ⟨-, -, q12, -, -⟩ := hi h2 hI2
    refine hR 60 149 _ _ _ _ _ _ rfl ?_
    exact ⟨q12, jcall (ct_223 G q12) ⟨fun _ => rO h2 b _ _ hI2 hout hb1 hb2, fun z => absurd hcode z⟩⟩
  have r6 : ∀ (h2 : mj_H) (b : Int32) (x6 : Option Value) (b1 b2 : Nat), I h2 → hI h2 1412 0 = jI k → (k = 0 → hJ h2 1441 0 = b.toInt64) → p ≤ b1 → 6 * p ≤ b2 → Run 328 (lL (jI ((4 * t : Nat) : Int)) (some (.int (jI k))) x6) [.int b] h2 (b1, b2) := by
    intro h2 b x6 b1 b2 hI2 hcode hout hb1 hb2
    refine hR 60 148 _ _ _ _ _ _ rfl ?_
    exact rT h2 b _ _ hI2 hcode hout hb1 hb2
  have rM : ∀ (x6 : Option Value) (b1 b2 : Nat), p ≤ b1 → 6 * p ≤ b2 → Run 312 (lL (jI ((4 * t : Nat) : Int)) (some (.int (jI k))) x6) [] h1 (b1, b2) := by
    intro x6 b1 b2 hb1 hb2
    refine hR 60 136 _ _ _ _ _ _ rfl ?_
    refine ⟨Or.inr sc.1, vn 1 sc (by decide), Or.inr sc.1, vn 2 sc (by decide), k12', jcallP cm ?_⟩
    intro o2 h2 q2
    obtain ⟨b, e, hI2, hcode, hout⟩ := hm o2 h2 q2
    subst e
    exact r6 h2 b _ _ _ hI2 hcode hout hb1 hb2
  have r5 : ∀ (x5 x6 : Option Value) (b1 b2 : Nat), p ≤ b1 → 6 * p ≤ b2 → Run 310 (lL (jI ((4 * t : Nat) : Int)) x5 x6) [.int (jI k)] h1 (b1, b2) := by
    intro x5 x6 b1 b2 hb1 hb2
    refine hR 60 135 _ _ _ _ _ _ rfl ?_
    exact rM _ _ _ hb1 hb2
  exact r5 _ _ _ _ (by omega) (by omega)
set_option maxRecDepth 20000 in
set_option maxHeartbeats 8000000 in
theorem law_c4 (G : mj_G) {I : mj_H → Prop} {Ln : Nat} {xs : Nat → Int32} (hi : lawI I Ln xs) (hLn : Ln ≤ 2048) {Run : mj_K} (hR : mj_closed G cx_law cd_law (fun o _ => o = .returned (some (.int (jI 1)))) Run) {p t bc bs : Nat} {h : mj_H} (hI' : I h) (hlt : 4 * t + 4 ≤ Ln) (hbc : p + 1 ≤ bc) (hbs : 6 * (p + 1) ≤ bs) (next : lawN I Run p t) (o9 : op1 G I Ln xs 110 268 [.int (xs (4 * t + 1))] h) : ∀ (x5 x6 : Option Value), Run 361 (lL (jI ((4 * t : Nat) : Int)) x5 x6) [] h (bc, bs) := by
  obtain ⟨⟨k0, n0, s0⟩, k1, k12, k41, n41⟩ := hi h hI'
  have vn := fun {h3 : mj_H} (j : Nat) (sc : scr xs Ln h3) (hj : j < 4) => sc_vn (t := t) hLn hlt j sc hj
  have rd := fun {h3 : mj_H} (j : Nat) (sc : scr xs Ln h3) (hj : j < 4) => sc_rd (t := t) hLn hlt j sc hj
  intro x5 x6
  obtain ⟨Pw, cw, hw⟩ := o9
  have cw' := cw
  rw [← rd (h3 := h) 1 ⟨k0, n0, s0⟩ (by decide)] at cw'
  refine hR 60 167 _ _ _ _ _ _ rfl ?_
  refine ⟨Or.inr k0, vn 1 ⟨k0, n0, s0⟩ (by decide), 1, 6, Pw, cw', by omega, by omega, fun o h1 q => ?_⟩
  obtain ⟨k, hk, e, sc, k12', Pm, cm, hm⟩ := hw o h1 q
  subst e
  rw [← rd (h3 := h1) 1 sc (by decide)] at cm
  have rE : ∀ (h2 : mj_H) (x6 : Option Value) (b1 b2 : Nat), I h2 → p ≤ b1 → 6 * p ≤ b2 → Run 414 (lL (jI ((4 * t : Nat) : Int)) (some (.int (jI k))) x6) [] h2 (b1, b2) := by
    intro h2 x6 b1 b2 hI2 hb1 hb2
    refine hR 60 201 _ _ _ _ _ _ rfl ?_
    exact next h2 _ _ _ _ hI2 hb1 hb2
  have rO : ∀ (h2 : mj_H) (b : Int32) (b1 b2 : Nat), I h2 → (k = 0 → hJ h2 1441 0 = b.toInt64) → p ≤ b1 → 6 * p ≤ b2 → Run 397 (lL (jI ((4 * t : Nat) : Int)) (some (.int (jI k))) (some (.int b))) [] h2 (b1, b2) := by
    intro h2 b b1 b2 hI2 hout hb1 hb2
    obtain ⟨-, -, -, q41, q42⟩ := hi h2 hI2
    refine hR 60 190 _ _ _ _ _ _ rfl ?_
    refine ⟨fun c => ⟨q41, by rw [q42]; exact jI_in (by omega) (by omega) (by omega), fun _ => rE h2 _ _ _ hI2 hb1 hb2, fun c2 => ?_⟩, fun c => rE h2 _ _ _ hI2 hb1 hb2⟩
    simp (disch := omega) only [mj_lcm, jI_lt, jI_le, jI_eq, jL_lt, jL_le, jL_eq, jI_lt0, jI_0le, jI_0lt, jI_le0, jI_eq0, jL_eq0, jI_L, jI_add, jI_sub, jI_mul, jI_neg, jL_add, jL_sub, jL_mul, jL_neg, jL_I, jI_div, jI_mod, jL_div, jL_mod] at c
    exact absurd (hout c) c2
  have rT : ∀ (h2 : mj_H) (b : Int32) (b1 b2 : Nat), I h2 → hI h2 1412 0 = jI k → (k = 0 → hJ h2 1441 0 = b.toInt64) → p ≤ b1 → 6 * p ≤ b2 → Run 386 (lL (jI ((4 * t : Nat) : Int)) (some (.int (jI k))) (some (.int b))) [] h2 (b1, b2) := by
    intro h2 b b1 b2 hI2 hcode hout hb1 hb2
    obtain ⟨-, -, q12, -, -⟩ := hi h2 hI2
    refine hR 60 184 _ _ _ _ _ _ rfl ?_
    exact ⟨q12, jcall (ct_223 G q12) ⟨fun _ => rO h2 b _ _ hI2 hout hb1 hb2, fun z => absurd hcode z⟩⟩
  have r6 : ∀ (h2 : mj_H) (b : Int32) (x6 : Option Value) (b1 b2 : Nat), I h2 → hI h2 1412 0 = jI k → (k = 0 → hJ h2 1441 0 = b.toInt64) → p ≤ b1 → 6 * p ≤ b2 → Run 384 (lL (jI ((4 * t : Nat) : Int)) (some (.int (jI k))) x6) [.int b] h2 (b1, b2) := by
    intro h2 b x6 b1 b2 hI2 hcode hout hb1 hb2
    refine hR 60 183 _ _ _ _ _ _ rfl ?_
    exact rT h2 b _ _ hI2 hcode hout hb1 hb2
  have rM : ∀ (x6 : Option Value) (b1 b2 : Nat), p ≤ b1 → 6 * p ≤ b2 → Run 374 (lL (jI ((4 * t : Nat) : Int)) (some (.int (jI k))) x6) [] h1 (b1, b2) := by
    intro x6 b1 b2 hb1 hb2
    refine hR 60 176 _ _ _ _ _ _ rfl ?_
    refine ⟨Or.inr sc.1, vn 1 sc (by decide), k12', jcallP cm ?_⟩
    intro o2 h2 q2
    obtain ⟨b, e, hI2, hcode, hout⟩ := hm o2 h2 q2
    subst e
    exact r6 h2 b _ _ _ hI2 hcode hout hb1 hb2
  have r5 : ∀ (x5 x6 : Option Value) (b1 b2 : Nat), p ≤ b1 → 6 * p ≤ b2 → Run 372 (lL (jI ((4 * t : Nat) : Int)) x5 x6) [.int (jI k)] h1 (b1, b2) := by
    intro x5 x6 b1 b2 hb1 hb2
    refine hR 60 175 _ _ _ _ _ _ rfl ?_
    exact rM _ _ _ hb1 hb2
  exact r5 _ _ _ _ (by omega) (by omega)
set_option maxRecDepth 20000 in
set_option maxHeartbeats 8000000 in
theorem law_c5 (G : mj_G) {I : mj_H → Prop} {Ln : Nat} {xs : Nat → Int32} (hi : lawI I Ln xs) (hLn : Ln ≤ 2048) {Run : mj_K} (hR : mj_closed G cx_law cd_law (fun o _ => o = .returned (some (.int (jI 1)))) Run) {p t bc bs : Nat} {h : mj_H} (hI' : I h) (hlt : 4 * t + 4 ≤ Ln) (hbc : p + 1 ≤ bc) (hbs : 6 * (p + 1) ≤ bs) (next : lawN I Run p t) (o9 : op1 G I Ln xs 112 270 [.int (xs (4 * t + 1)), .int (xs (4 * t + 2))] h) : ∀ (x5 x6 : Option Value), Run 417 (lL (jI ((4 * t : Nat) : Int)) x5 x6) [] h (bc, bs) := by
  obtain ⟨⟨k0, n0, s0⟩, k1, k12, k41, n41⟩ := hi h hI'
  have vn := fun {h3 : mj_H} (j : Nat) (sc : scr xs Ln h3) (hj : j < 4) => sc_vn (t := t) hLn hlt j sc hj
  have rd := fun {h3 : mj_H} (j : Nat) (sc : scr xs Ln h3) (hj : j < 4) => sc_rd (t := t) hLn hlt j sc hj
  intro x5 x6
  obtain ⟨Pw, cw, hw⟩ := o9
  have cw' := cw
  rw [← rd (h3 := h) 1 ⟨k0, n0, s0⟩ (by decide), ← rd (h3 := h) 2 ⟨k0, n0, s0⟩ (by decide)] at cw'
  refine hR 60 202 _ _ _ _ _ _ rfl ?_
  refine ⟨Or.inr k0, vn 1 ⟨k0, n0, s0⟩ (by decide), Or.inr k0, vn 2 ⟨k0, n0, s0⟩ (by decide), 1, 6, Pw, cw', by omega, by omega, fun o h1 q => ?_⟩
  obtain ⟨k, hk, e, sc, k12', Pm, cm, hm⟩ := hw o h1 q
  subst e
  rw [← rd (h3 := h1) 1 sc (by decide), ← rd (h3 := h1) 2 sc (by decide)] at cm
  have rE : ∀ (h2 : mj_H) (x6 : Option Value) (b1 b2 : Nat), I h2 → p ≤ b1 → 6 * p ≤ b2 → Run 482 (lL (jI ((4 * t : Nat) : Int)) (some (.int (jI k))) x6) [] h2 (b1, b2) := by
    intro h2 x6 b1 b2 hI2 hb1 hb2
    refine hR 60 246 _ _ _ _ _ _ rfl ?_
    exact next h2 _ _ _ _ hI2 hb1 hb2
  have rO : ∀ (h2 : mj_H) (b : Int32) (b1 b2 : Nat), I h2 → (k = 0 → hJ h2 1441 0 = b.toInt64) → p ≤ b1 → 6 * p ≤ b2 → Run 465 (lL (jI ((4 * t : Nat) : Int)) (some (.int (jI k))) (some (.int b))) [] h2 (b1, b2) := by
    intro h2 b b1 b2 hI2 hout hb1 hb2
    obtain ⟨-, -, -, q41, q42⟩ := hi h2 hI2
    refine hR 60 235 _ _ _ _ _ _ rfl ?_
    refine ⟨fun c => ⟨q41, by rw [q42]; exact jI_in (by omega) (by omega) (by omega), fun _ => rE h2 _ _ _ hI2 hb1 hb2, fun c2 => ?_⟩, fun c => rE h2 _ _ _ hI2 hb1 hb2⟩
    simp (disch := omega) only [mj_lcm, jI_lt, jI_le, jI_eq, jL_lt, jL_le, jL_eq, jI_lt0, jI_0le, jI_0lt, jI_le0, jI_eq0, jL_eq0, jI_L, jI_add, jI_sub, jI_mul, jI_neg, jL_add, jL_sub, jL_mul, jL_neg, jL_I, jI_div, jI_mod, jL_div, jL_mod] at c
    exact absurd (hout c) c2
  have rT : ∀ (h2 : mj_H) (b : Int32) (b1 b2 : Nat), I h2 → hI h2 1412 0 = jI k → (k = 0 → hJ h2 1441 0 = b.toInt64) → p ≤ b1 → 6 * p ≤ b2 → Run 454 (lL (jI ((4 * t : Nat) : Int)) (some (.int (jI k))) (some (.int b))) [] h2 (b1, b2) := by
    intro h2 b b1 b2 hI2 hcode hout hb1 hb2
    obtain ⟨-, -, q12, -, -⟩ := hi h2 hI2
    refine hR 60 229 _ _ _ _ _ _ rfl ?_
    exact ⟨q12, jcall (ct_223 G q12) ⟨fun _ => rO h2 b _ _ hI2 hout hb1 hb2, fun z => absurd hcode z⟩⟩
  have r6 : ∀ (h2 : mj_H) (b : Int32) (x6 : Option Value) (b1 b2 : Nat), I h2 → hI h2 1412 0 = jI k → (k = 0 → hJ h2 1441 0 = b.toInt64) → p ≤ b1 → 6 * p ≤ b2 → Run 452 (lL (jI ((4 * t : Nat) : Int)) (some (.int (jI k))) x6) [.int b] h2 (b1, b2) := by
    intro h2 b x6 b1 b2 hI2 hcode hout hb1 hb2
    refine hR 60 228 _ _ _ _ _ _ rfl ?_
    exact rT h2 b _ _ hI2 hcode hout hb1 hb2
  have rM : ∀ (x6 : Option Value) (b1 b2 : Nat), p ≤ b1 → 6 * p ≤ b2 → Run 436 (lL (jI ((4 * t : Nat) : Int)) (some (.int (jI k))) x6) [] h1 (b1, b2) := by
    intro x6 b1 b2 hb1 hb2
    refine hR 60 216 _ _ _ _ _ _ rfl ?_
    refine ⟨Or.inr sc.1, vn 1 sc (by decide), Or.inr sc.1, vn 2 sc (by decide), k12', jcallP cm ?_⟩
    intro o2 h2 q2
    obtain ⟨b, e, hI2, hcode, hout⟩ := hm o2 h2 q2
    subst e
    exact r6 h2 b _ _ _ hI2 hcode hout hb1 hb2
  have r5 : ∀ (x5 x6 : Option Value) (b1 b2 : Nat), p ≤ b1 → 6 * p ≤ b2 → Run 434 (lL (jI ((4 * t : Nat) : Int)) x5 x6) [.int (jI k)] h1 (b1, b2) := by
    intro x5 x6 b1 b2 hb1 hb2
    refine hR 60 215 _ _ _ _ _ _ rfl ?_
    exact rM _ _ _ hb1 hb2
  exact r5 _ _ _ _ (by omega) (by omega)
set_option maxRecDepth 20000 in
set_option maxHeartbeats 8000000 in
theorem law_c6 (G : mj_G) {I : mj_H → Prop} {Ln : Nat} {xs : Nat → Int32} (hi : lawI I Ln xs) (hLn : Ln ≤ 2048) {Run : mj_K} (hR : mj_closed G cx_law cd_law (fun o _ => o = .returned (some (.int (jI 1)))) Run) {p t bc bs : Nat} {h : mj_H} (hI' : I h) (hlt : 4 * t + 4 ≤ Ln) (hbc : p + 1 ≤ bc) (hbs : 6 * (p + 1) ≤ bs) (next : lawN I Run p t) (o9 : op1 G I Ln xs 114 271 [.int (xs (4 * t + 1))] h) : ∀ (x5 x6 : Option Value), Run 485 (lL (jI ((4 * t : Nat) : Int)) x5 x6) [] h (bc, bs) := by
  obtain ⟨⟨k0, n0, s0⟩, k1, k12, k41, n41⟩ := hi h hI'
  have vn := fun {h3 : mj_H} (j : Nat) (sc : scr xs Ln h3) (hj : j < 4) => sc_vn (t := t) hLn hlt j sc hj
  have rd := fun {h3 : mj_H} (j : Nat) (sc : scr xs Ln h3) (hj : j < 4) => sc_rd (t := t) hLn hlt j sc hj
  intro x5 x6
  obtain ⟨Pw, cw, hw⟩ := o9
  have cw' := cw
  rw [← rd (h3 := h) 1 ⟨k0, n0, s0⟩ (by decide)] at cw'
  refine hR 60 247 _ _ _ _ _ _ rfl ?_
  refine ⟨Or.inr k0, vn 1 ⟨k0, n0, s0⟩ (by decide), 1, 6, Pw, cw', by omega, by omega, fun o h1 q => ?_⟩
  obtain ⟨k, hk, e, sc, k12', Pm, cm, hm⟩ := hw o h1 q
  subst e
  rw [← rd (h3 := h1) 1 sc (by decide)] at cm
  have rE : ∀ (h2 : mj_H) (x6 : Option Value) (b1 b2 : Nat), I h2 → p ≤ b1 → 6 * p ≤ b2 → Run 538 (lL (jI ((4 * t : Nat) : Int)) (some (.int (jI k))) x6) [] h2 (b1, b2) := by
    intro h2 x6 b1 b2 hI2 hb1 hb2
    refine hR 60 281 _ _ _ _ _ _ rfl ?_
    exact next h2 _ _ _ _ hI2 hb1 hb2
  have rO : ∀ (h2 : mj_H) (b : Int32) (b1 b2 : Nat), I h2 → (k = 0 → hJ h2 1441 0 = b.toInt64) → p ≤ b1 → 6 * p ≤ b2 → Run 521 (lL (jI ((4 * t : Nat) : Int)) (some (.int (jI k))) (some (.int b))) [] h2 (b1, b2) := by
    intro h2 b b1 b2 hI2 hout hb1 hb2
    obtain ⟨-, -, -, q41, q42⟩ := hi h2 hI2
    refine hR 60 270 _ _ _ _ _ _ rfl ?_
    refine ⟨fun c => ⟨q41, by rw [q42]; exact jI_in (by omega) (by omega) (by omega), fun _ => rE h2 _ _ _ hI2 hb1 hb2, fun c2 => ?_⟩, fun c => rE h2 _ _ _ hI2 hb1 hb2⟩
    simp (disch := omega) only [mj_lcm, jI_lt, jI_le, jI_eq, jL_lt, jL_le, jL_eq, jI_lt0, jI_0le, jI_0lt, jI_le0, jI_eq0, jL_eq0, jI_L, jI_add, jI_sub, jI_mul, jI_neg, jL_add, jL_sub, jL_mul, jL_neg, jL_I, jI_div, jI_mod, jL_div, jL_mod] at c
    exact absurd (hout c) c2
  have rT : ∀ (h2 : mj_H) (b : Int32) (b1 b2 : Nat), I h2 → hI h2 1412 0 = jI k → (k = 0 → hJ h2 1441 0 = b.toInt64) → p ≤ b1 → 6 * p ≤ b2 → Run 510 (lL (jI ((4 * t : Nat) : Int)) (some (.int (jI k))) (some (.int b))) [] h2 (b1, b2) := by
    intro h2 b b1 b2 hI2 hcode hout hb1 hb2
    obtain ⟨-, -, q12, -, -⟩ := hi h2 hI2
    refine hR 60 264 _ _ _ _ _ _ rfl ?_
    exact ⟨q12, jcall (ct_223 G q12) ⟨fun _ => rO h2 b _ _ hI2 hout hb1 hb2, fun z => absurd hcode z⟩⟩
  have r6 : ∀ (h2 : mj_H) (b : Int32) (x6 : Option Value) (b1 b2 : Nat), I h2 → hI h2 1412 0 = jI k → (k = 0 → hJ h2 1441 0 = b.toInt64) → p ≤ b1 → 6 * p ≤ b2 → Run 508 (lL (jI ((4 * t : Nat) : Int)) (some (.int (jI k))) x6) [.int b] h2 (b1, b2) := by
    intro h2 b x6 b1 b2 hI2 hcode hout hb1 hb2
    refine hR 60 263 _ _ _ _ _ _ rfl ?_
    exact rT h2 b _ _ hI2 hcode hout hb1 hb2
  have rM : ∀ (x6 : Option Value) (b1 b2 : Nat), p ≤ b1 → 6 * p ≤ b2 → Run 498 (lL (jI ((4 * t : Nat) : Int)) (some (.int (jI k))) x6) [] h1 (b1, b2) := by
    intro x6 b1 b2 hb1 hb2
    refine hR 60 256 _ _ _ _ _ _ rfl ?_
    refine ⟨Or.inr sc.1, vn 1 sc (by decide), k12', jcallP cm ?_⟩
    intro o2 h2 q2
    obtain ⟨b, e, hI2, hcode, hout⟩ := hm o2 h2 q2
    subst e
    exact r6 h2 b _ _ _ hI2 hcode hout hb1 hb2
  have r5 : ∀ (x5 x6 : Option Value) (b1 b2 : Nat), p ≤ b1 → 6 * p ≤ b2 → Run 496 (lL (jI ((4 * t : Nat) : Int)) x5 x6) [.int (jI k)] h1 (b1, b2) := by
    intro x5 x6 b1 b2 hb1 hb2
    refine hR 60 255 _ _ _ _ _ _ rfl ?_
    exact rM _ _ _ hb1 hb2
  exact r5 _ _ _ _ (by omega) (by omega)
set_option maxRecDepth 20000 in
set_option maxHeartbeats 8000000 in
theorem law_c7 (G : mj_G) {I : mj_H → Prop} {Ln : Nat} {xs : Nat → Int32} (hi : lawI I Ln xs) (hLn : Ln ≤ 2048) {Run : mj_K} (hR : mj_closed G cx_law cd_law (fun o _ => o = .returned (some (.int (jI 1)))) Run) {p t bc bs : Nat} {h : mj_H} (hI' : I h) (hlt : 4 * t + 4 ≤ Ln) (hbc : p + 1 ≤ bc) (hbs : 6 * (p + 1) ≤ bs) (next : lawN I Run p t) (o9 : op1 G I Ln xs 116 272 [.int (xs (4 * t + 1))] h) : ∀ (x5 x6 : Option Value), Run 541 (lL (jI ((4 * t : Nat) : Int)) x5 x6) [] h (bc, bs) := by
  obtain ⟨⟨k0, n0, s0⟩, k1, k12, k41, n41⟩ := hi h hI'
  have vn := fun {h3 : mj_H} (j : Nat) (sc : scr xs Ln h3) (hj : j < 4) => sc_vn (t := t) hLn hlt j sc hj
  have rd := fun {h3 : mj_H} (j : Nat) (sc : scr xs Ln h3) (hj : j < 4) => sc_rd (t := t) hLn hlt j sc hj
  intro x5 x6
  obtain ⟨Pw, cw, hw⟩ := o9
  have cw' := cw
  rw [← rd (h3 := h) 1 ⟨k0, n0, s0⟩ (by decide)] at cw'
  refine hR 60 282 _ _ _ _ _ _ rfl ?_
  refine ⟨Or.inr k0, vn 1 ⟨k0, n0, s0⟩ (by decide), 1, 6, Pw, cw', by omega, by omega, fun o h1 q => ?_⟩
  obtain ⟨k, hk, e, sc, k12', Pm, cm, hm⟩ := hw o h1 q
  subst e
  rw [← rd (h3 := h1) 1 sc (by decide)] at cm
  have rE : ∀ (h2 : mj_H) (x6 : Option Value) (b1 b2 : Nat), I h2 → p ≤ b1 → 6 * p ≤ b2 → Run 594 (lL (jI ((4 * t : Nat) : Int)) (some (.int (jI k))) x6) [] h2 (b1, b2) := by
    intro h2 x6 b1 b2 hI2 hb1 hb2
    refine hR 60 316 _ _ _ _ _ _ rfl ?_
    exact next h2 _ _ _ _ hI2 hb1 hb2
  have rO : ∀ (h2 : mj_H) (b : Int32) (b1 b2 : Nat), I h2 → (k = 0 → hJ h2 1441 0 = b.toInt64) → p ≤ b1 → 6 * p ≤ b2 → Run 577 (lL (jI ((4 * t : Nat) : Int)) (some (.int (jI k))) (some (.int b))) [] h2 (b1, b2) := by
    intro h2 b b1 b2 hI2 hout hb1 hb2
    obtain ⟨-, -, -, q41, q42⟩ := hi h2 hI2
    refine hR 60 305 _ _ _ _ _ _ rfl ?_
    refine ⟨fun c => ⟨q41, by rw [q42]; exact jI_in (by omega) (by omega) (by omega), fun _ => rE h2 _ _ _ hI2 hb1 hb2, fun c2 => ?_⟩, fun c => rE h2 _ _ _ hI2 hb1 hb2⟩
    simp (disch := omega) only [mj_lcm, jI_lt, jI_le, jI_eq, jL_lt, jL_le, jL_eq, jI_lt0, jI_0le, jI_0lt, jI_le0, jI_eq0, jL_eq0, jI_L, jI_add, jI_sub, jI_mul, jI_neg, jL_add, jL_sub, jL_mul, jL_neg, jL_I, jI_div, jI_mod, jL_div, jL_mod] at c
    exact absurd (hout c) c2
  have rT : ∀ (h2 : mj_H) (b : Int32) (b1 b2 : Nat), I h2 → hI h2 1412 0 = jI k → (k = 0 → hJ h2 1441 0 = b.toInt64) → p ≤ b1 → 6 * p ≤ b2 → Run 566 (lL (jI ((4 * t : Nat) : Int)) (some (.int (jI k))) (some (.int b))) [] h2 (b1, b2) := by
    intro h2 b b1 b2 hI2 hcode hout hb1 hb2
    obtain ⟨-, -, q12, -, -⟩ := hi h2 hI2
    refine hR 60 299 _ _ _ _ _ _ rfl ?_
    exact ⟨q12, jcall (ct_223 G q12) ⟨fun _ => rO h2 b _ _ hI2 hout hb1 hb2, fun z => absurd hcode z⟩⟩
  have r6 : ∀ (h2 : mj_H) (b : Int32) (x6 : Option Value) (b1 b2 : Nat), I h2 → hI h2 1412 0 = jI k → (k = 0 → hJ h2 1441 0 = b.toInt64) → p ≤ b1 → 6 * p ≤ b2 → Run 564 (lL (jI ((4 * t : Nat) : Int)) (some (.int (jI k))) x6) [.int b] h2 (b1, b2) := by
    intro h2 b x6 b1 b2 hI2 hcode hout hb1 hb2
    refine hR 60 298 _ _ _ _ _ _ rfl ?_
    exact rT h2 b _ _ hI2 hcode hout hb1 hb2
  have rM : ∀ (x6 : Option Value) (b1 b2 : Nat), p ≤ b1 → 6 * p ≤ b2 → Run 554 (lL (jI ((4 * t : Nat) : Int)) (some (.int (jI k))) x6) [] h1 (b1, b2) := by
    intro x6 b1 b2 hb1 hb2
    refine hR 60 291 _ _ _ _ _ _ rfl ?_
    refine ⟨Or.inr sc.1, vn 1 sc (by decide), k12', jcallP cm ?_⟩
    intro o2 h2 q2
    obtain ⟨b, e, hI2, hcode, hout⟩ := hm o2 h2 q2
    subst e
    exact r6 h2 b _ _ _ hI2 hcode hout hb1 hb2
  have r5 : ∀ (x5 x6 : Option Value) (b1 b2 : Nat), p ≤ b1 → 6 * p ≤ b2 → Run 552 (lL (jI ((4 * t : Nat) : Int)) x5 x6) [.int (jI k)] h1 (b1, b2) := by
    intro x5 x6 b1 b2 hb1 hb2
    refine hR 60 290 _ _ _ _ _ _ rfl ?_
    exact rM _ _ _ hb1 hb2
  exact r5 _ _ _ _ (by omega) (by omega)
set_option maxRecDepth 20000 in
set_option maxHeartbeats 8000000 in
theorem law_c8 (G : mj_G) {I : mj_H → Prop} {Ln : Nat} {xs : Nat → Int32} (hi : lawI I Ln xs) (hLn : Ln ≤ 2048) {Run : mj_K} (hR : mj_closed G cx_law cd_law (fun o _ => o = .returned (some (.int (jI 1)))) Run) {p t bc bs : Nat} {h : mj_H} (hI' : I h) (hlt : 4 * t + 4 ≤ Ln) (hbc : p + 1 ≤ bc) (hbs : 6 * (p + 1) ≤ bs) (next : lawN I Run p t) (o9 : op1 G I Ln xs 118 273 [.int (xs (4 * t + 1)), .int (xs (4 * t + 2))] h) : ∀ (x5 x6 : Option Value), Run 597 (lL (jI ((4 * t : Nat) : Int)) x5 x6) [] h (bc, bs) := by
  obtain ⟨⟨k0, n0, s0⟩, k1, k12, k41, n41⟩ := hi h hI'
  have vn := fun {h3 : mj_H} (j : Nat) (sc : scr xs Ln h3) (hj : j < 4) => sc_vn (t := t) hLn hlt j sc hj
  have rd := fun {h3 : mj_H} (j : Nat) (sc : scr xs Ln h3) (hj : j < 4) => sc_rd (t := t) hLn hlt j sc hj
  intro x5 x6
  obtain ⟨Pw, cw, hw⟩ := o9
  have cw' := cw
  rw [← rd (h3 := h) 1 ⟨k0, n0, s0⟩ (by decide), ← rd (h3 := h) 2 ⟨k0, n0, s0⟩ (by decide)] at cw'
  refine hR 60 317 _ _ _ _ _ _ rfl ?_
  refine ⟨Or.inr k0, vn 1 ⟨k0, n0, s0⟩ (by decide), Or.inr k0, vn 2 ⟨k0, n0, s0⟩ (by decide), 1, 6, Pw, cw', by omega, by omega, fun o h1 q => ?_⟩
  obtain ⟨k, hk, e, sc, k12', Pm, cm, hm⟩ := hw o h1 q
  subst e
  rw [← rd (h3 := h1) 1 sc (by decide), ← rd (h3 := h1) 2 sc (by decide)] at cm
  have rE : ∀ (h2 : mj_H) (x6 : Option Value) (b1 b2 : Nat), I h2 → p ≤ b1 → 6 * p ≤ b2 → Run 662 (lL (jI ((4 * t : Nat) : Int)) (some (.int (jI k))) x6) [] h2 (b1, b2) := by
    intro h2 x6 b1 b2 hI2 hb1 hb2
    refine hR 60 361 _ _ _ _ _ _ rfl ?_
    exact next h2 _ _ _ _ hI2 hb1 hb2
  have rO : ∀ (h2 : mj_H) (b : Int32) (b1 b2 : Nat), I h2 → (k = 0 → hJ h2 1441 0 = b.toInt64) → p ≤ b1 → 6 * p ≤ b2 → Run 645 (lL (jI ((4 * t : Nat) : Int)) (some (.int (jI k))) (some (.int b))) [] h2 (b1, b2) := by
    intro h2 b b1 b2 hI2 hout hb1 hb2
    obtain ⟨-, -, -, q41, q42⟩ := hi h2 hI2
    refine hR 60 350 _ _ _ _ _ _ rfl ?_
    refine ⟨fun c => ⟨q41, by rw [q42]; exact jI_in (by omega) (by omega) (by omega), fun _ => rE h2 _ _ _ hI2 hb1 hb2, fun c2 => ?_⟩, fun c => rE h2 _ _ _ hI2 hb1 hb2⟩
    simp (disch := omega) only [mj_lcm, jI_lt, jI_le, jI_eq, jL_lt, jL_le, jL_eq, jI_lt0, jI_0le, jI_0lt, jI_le0, jI_eq0, jL_eq0, jI_L, jI_add, jI_sub, jI_mul, jI_neg, jL_add, jL_sub, jL_mul, jL_neg, jL_I, jI_div, jI_mod, jL_div, jL_mod] at c
    exact absurd (hout c) c2
  have rT : ∀ (h2 : mj_H) (b : Int32) (b1 b2 : Nat), I h2 → hI h2 1412 0 = jI k → (k = 0 → hJ h2 1441 0 = b.toInt64) → p ≤ b1 → 6 * p ≤ b2 → Run 634 (lL (jI ((4 * t : Nat) : Int)) (some (.int (jI k))) (some (.int b))) [] h2 (b1, b2) := by
    intro h2 b b1 b2 hI2 hcode hout hb1 hb2
    obtain ⟨-, -, q12, -, -⟩ := hi h2 hI2
    refine hR 60 344 _ _ _ _ _ _ rfl ?_
    exact ⟨q12, jcall (ct_223 G q12) ⟨fun _ => rO h2 b _ _ hI2 hout hb1 hb2, fun z => absurd hcode z⟩⟩
  have r6 : ∀ (h2 : mj_H) (b : Int32) (x6 : Option Value) (b1 b2 : Nat), I h2 → hI h2 1412 0 = jI k → (k = 0 → hJ h2 1441 0 = b.toInt64) → p ≤ b1 → 6 * p ≤ b2 → Run 632 (lL (jI ((4 * t : Nat) : Int)) (some (.int (jI k))) x6) [.int b] h2 (b1, b2) := by
    intro h2 b x6 b1 b2 hI2 hcode hout hb1 hb2
    refine hR 60 343 _ _ _ _ _ _ rfl ?_
    exact rT h2 b _ _ hI2 hcode hout hb1 hb2
  have rM : ∀ (x6 : Option Value) (b1 b2 : Nat), p ≤ b1 → 6 * p ≤ b2 → Run 616 (lL (jI ((4 * t : Nat) : Int)) (some (.int (jI k))) x6) [] h1 (b1, b2) := by
    intro x6 b1 b2 hb1 hb2
    refine hR 60 331 _ _ _ _ _ _ rfl ?_
    refine ⟨Or.inr sc.1, vn 1 sc (by decide), Or.inr sc.1, vn 2 sc (by decide), k12', jcallP cm ?_⟩
    intro o2 h2 q2
    obtain ⟨b, e, hI2, hcode, hout⟩ := hm o2 h2 q2
    subst e
    exact r6 h2 b _ _ _ hI2 hcode hout hb1 hb2
  have r5 : ∀ (x5 x6 : Option Value) (b1 b2 : Nat), p ≤ b1 → 6 * p ≤ b2 → Run 614 (lL (jI ((4 * t : Nat) : Int)) x5 x6) [.int (jI k)] h1 (b1, b2) := by
    intro x5 x6 b1 b2 hb1 hb2
    refine hR 60 330 _ _ _ _ _ _ rfl ?_
    exact rM _ _ _ hb1 hb2
  exact r5 _ _ _ _ (by omega) (by omega)
set_option maxRecDepth 20000 in
set_option maxHeartbeats 8000000 in
theorem law_c9 (G : mj_G) {I : mj_H → Prop} {Ln : Nat} {xs : Nat → Int32} (hi : lawI I Ln xs) (hLn : Ln ≤ 2048) {Run : mj_K} (hR : mj_closed G cx_law cd_law (fun o _ => o = .returned (some (.int (jI 1)))) Run) {p t bc bs : Nat} {h : mj_H} (hI' : I h) (hlt : 4 * t + 4 ≤ Ln) (hbc : p + 1 ≤ bc) (hbs : 6 * (p + 1) ≤ bs) (next : lawN I Run p t) (o9 : op1 G I Ln xs 120 262 [.int (xs (4 * t + 1))] h) : ∀ (x5 x6 : Option Value), Run 665 (lL (jI ((4 * t : Nat) : Int)) x5 x6) [] h (bc, bs) := by
  obtain ⟨⟨k0, n0, s0⟩, k1, k12, k41, n41⟩ := hi h hI'
  have vn := fun {h3 : mj_H} (j : Nat) (sc : scr xs Ln h3) (hj : j < 4) => sc_vn (t := t) hLn hlt j sc hj
  have rd := fun {h3 : mj_H} (j : Nat) (sc : scr xs Ln h3) (hj : j < 4) => sc_rd (t := t) hLn hlt j sc hj
  intro x5 x6
  obtain ⟨Pw, cw, hw⟩ := o9
  have cw' := cw
  rw [← rd (h3 := h) 1 ⟨k0, n0, s0⟩ (by decide)] at cw'
  refine hR 60 362 _ _ _ _ _ _ rfl ?_
  refine ⟨Or.inr k0, vn 1 ⟨k0, n0, s0⟩ (by decide), 1, 6, Pw, cw', by omega, by omega, fun o h1 q => ?_⟩
  obtain ⟨k, hk, e, sc, k12', Pm, cm, hm⟩ := hw o h1 q
  subst e
  rw [← rd (h3 := h1) 1 sc (by decide)] at cm
  have rE : ∀ (h2 : mj_H) (x6 : Option Value) (b1 b2 : Nat), I h2 → p ≤ b1 → 6 * p ≤ b2 → Run 718 (lL (jI ((4 * t : Nat) : Int)) (some (.int (jI k))) x6) [] h2 (b1, b2) := by
    intro h2 x6 b1 b2 hI2 hb1 hb2
    refine hR 60 396 _ _ _ _ _ _ rfl ?_
    exact next h2 _ _ _ _ hI2 hb1 hb2
  have rO : ∀ (h2 : mj_H) (b : Int32) (b1 b2 : Nat), I h2 → (k = 0 → hJ h2 1441 0 = b.toInt64) → p ≤ b1 → 6 * p ≤ b2 → Run 701 (lL (jI ((4 * t : Nat) : Int)) (some (.int (jI k))) (some (.int b))) [] h2 (b1, b2) := by
    intro h2 b b1 b2 hI2 hout hb1 hb2
    obtain ⟨-, -, -, q41, q42⟩ := hi h2 hI2
    refine hR 60 385 _ _ _ _ _ _ rfl ?_
    refine ⟨fun c => ⟨q41, by rw [q42]; exact jI_in (by omega) (by omega) (by omega), fun _ => rE h2 _ _ _ hI2 hb1 hb2, fun c2 => ?_⟩, fun c => rE h2 _ _ _ hI2 hb1 hb2⟩
    simp (disch := omega) only [mj_lcm, jI_lt, jI_le, jI_eq, jL_lt, jL_le, jL_eq, jI_lt0, jI_0le, jI_0lt, jI_le0, jI_eq0, jL_eq0, jI_L, jI_add, jI_sub, jI_mul, jI_neg, jL_add, jL_sub, jL_mul, jL_neg, jL_I, jI_div, jI_mod, jL_div, jL_mod] at c
    exact absurd (hout c) c2
  have rT : ∀ (h2 : mj_H) (b : Int32) (b1 b2 : Nat), I h2 → hI h2 1412 0 = jI k → (k = 0 → hJ h2 1441 0 = b.toInt64) → p ≤ b1 → 6 * p ≤ b2 → Run 690 (lL (jI ((4 * t : Nat) : Int)) (some (.int (jI k))) (some (.int b))) [] h2 (b1, b2) := by
    intro h2 b b1 b2 hI2 hcode hout hb1 hb2
    obtain ⟨-, -, q12, -, -⟩ := hi h2 hI2
    refine hR 60 379 _ _ _ _ _ _ rfl ?_
    exact ⟨q12, jcall (ct_223 G q12) ⟨fun _ => rO h2 b _ _ hI2 hout hb1 hb2, fun z => absurd hcode z⟩⟩
  have r6 : ∀ (h2 : mj_H) (b : Int32) (x6 : Option Value) (b1 b2 : Nat), I h2 → hI h2 1412 0 = jI k → (k = 0 → hJ h2 1441 0 = b.toInt64) → p ≤ b1 → 6 * p ≤ b2 → Run 688 (lL (jI ((4 * t : Nat) : Int)) (some (.int (jI k))) x6) [.int b] h2 (b1, b2) := by
    intro h2 b x6 b1 b2 hI2 hcode hout hb1 hb2
    refine hR 60 378 _ _ _ _ _ _ rfl ?_
    exact rT h2 b _ _ hI2 hcode hout hb1 hb2
  have rM : ∀ (x6 : Option Value) (b1 b2 : Nat), p ≤ b1 → 6 * p ≤ b2 → Run 678 (lL (jI ((4 * t : Nat) : Int)) (some (.int (jI k))) x6) [] h1 (b1, b2) := by
    intro x6 b1 b2 hb1 hb2
    refine hR 60 371 _ _ _ _ _ _ rfl ?_
    refine ⟨Or.inr sc.1, vn 1 sc (by decide), k12', jcallP cm ?_⟩
    intro o2 h2 q2
    obtain ⟨b, e, hI2, hcode, hout⟩ := hm o2 h2 q2
    subst e
    exact r6 h2 b _ _ _ hI2 hcode hout hb1 hb2
  have r5 : ∀ (x5 x6 : Option Value) (b1 b2 : Nat), p ≤ b1 → 6 * p ≤ b2 → Run 676 (lL (jI ((4 * t : Nat) : Int)) x5 x6) [.int (jI k)] h1 (b1, b2) := by
    intro x5 x6 b1 b2 hb1 hb2
    refine hR 60 370 _ _ _ _ _ _ rfl ?_
    exact rM _ _ _ hb1 hb2
  exact r5 _ _ _ _ (by omega) (by omega)
set_option maxRecDepth 20000 in
set_option maxHeartbeats 8000000 in
theorem law_c10 (G : mj_G) {I : mj_H → Prop} {Ln : Nat} {xs : Nat → Int32} (hi : lawI I Ln xs) (hLn : Ln ≤ 2048) {Run : mj_K} (hR : mj_closed G cx_law cd_law (fun o _ => o = .returned (some (.int (jI 1)))) Run) {p t bc bs : Nat} {h : mj_H} (hI' : I h) (hlt : 4 * t + 4 ≤ Ln) (hbc : p + 1 ≤ bc) (hbs : 6 * (p + 1) ≤ bs) (next : lawN I Run p t) (o9 : op1 G I Ln xs 122 263 [.int (xs (4 * t + 1)), .int (xs (4 * t + 2))] h) : ∀ (x5 x6 : Option Value), Run 721 (lL (jI ((4 * t : Nat) : Int)) x5 x6) [] h (bc, bs) := by
  obtain ⟨⟨k0, n0, s0⟩, k1, k12, k41, n41⟩ := hi h hI'
  have vn := fun {h3 : mj_H} (j : Nat) (sc : scr xs Ln h3) (hj : j < 4) => sc_vn (t := t) hLn hlt j sc hj
  have rd := fun {h3 : mj_H} (j : Nat) (sc : scr xs Ln h3) (hj : j < 4) => sc_rd (t := t) hLn hlt j sc hj
  intro x5 x6
  obtain ⟨Pw, cw, hw⟩ := o9
  have cw' := cw
  rw [← rd (h3 := h) 1 ⟨k0, n0, s0⟩ (by decide), ← rd (h3 := h) 2 ⟨k0, n0, s0⟩ (by decide)] at cw'
  refine hR 60 397 _ _ _ _ _ _ rfl ?_
  refine ⟨Or.inr k0, vn 1 ⟨k0, n0, s0⟩ (by decide), Or.inr k0, vn 2 ⟨k0, n0, s0⟩ (by decide), 1, 6, Pw, cw', by omega, by omega, fun o h1 q => ?_⟩
  obtain ⟨k, hk, e, sc, k12', Pm, cm, hm⟩ := hw o h1 q
  subst e
  rw [← rd (h3 := h1) 1 sc (by decide), ← rd (h3 := h1) 2 sc (by decide)] at cm
  have rE : ∀ (h2 : mj_H) (x6 : Option Value) (b1 b2 : Nat), I h2 → p ≤ b1 → 6 * p ≤ b2 → Run 786 (lL (jI ((4 * t : Nat) : Int)) (some (.int (jI k))) x6) [] h2 (b1, b2) := by
    intro h2 x6 b1 b2 hI2 hb1 hb2
    refine hR 60 441 _ _ _ _ _ _ rfl ?_
    exact next h2 _ _ _ _ hI2 hb1 hb2
  have rO : ∀ (h2 : mj_H) (b : Int32) (b1 b2 : Nat), I h2 → (k = 0 → hJ h2 1441 0 = b.toInt64) → p ≤ b1 → 6 * p ≤ b2 → Run 769 (lL (jI ((4 * t : Nat) : Int)) (some (.int (jI k))) (some (.int b))) [] h2 (b1, b2) := by
    intro h2 b b1 b2 hI2 hout hb1 hb2
    obtain ⟨-, -, -, q41, q42⟩ := hi h2 hI2
    refine hR 60 430 _ _ _ _ _ _ rfl ?_
    refine ⟨fun c => ⟨q41, by rw [q42]; exact jI_in (by omega) (by omega) (by omega), fun _ => rE h2 _ _ _ hI2 hb1 hb2, fun c2 => ?_⟩, fun c => rE h2 _ _ _ hI2 hb1 hb2⟩
    simp (disch := omega) only [mj_lcm, jI_lt, jI_le, jI_eq, jL_lt, jL_le, jL_eq, jI_lt0, jI_0le, jI_0lt, jI_le0, jI_eq0, jL_eq0, jI_L, jI_add, jI_sub, jI_mul, jI_neg, jL_add, jL_sub, jL_mul, jL_neg, jL_I, jI_div, jI_mod, jL_div, jL_mod] at c
    exact absurd (hout c) c2
  have rT : ∀ (h2 : mj_H) (b : Int32) (b1 b2 : Nat), I h2 → hI h2 1412 0 = jI k → (k = 0 → hJ h2 1441 0 = b.toInt64) → p ≤ b1 → 6 * p ≤ b2 → Run 758 (lL (jI ((4 * t : Nat) : Int)) (some (.int (jI k))) (some (.int b))) [] h2 (b1, b2) := by
    intro h2 b b1 b2 hI2 hcode hout hb1 hb2
    obtain ⟨-, -, q12, -, -⟩ := hi h2 hI2
    refine hR 60 424 _ _ _ _ _ _ rfl ?_
    exact ⟨q12, jcall (ct_223 G q12) ⟨fun _ => rO h2 b _ _ hI2 hout hb1 hb2, fun z => absurd hcode z⟩⟩
  have r6 : ∀ (h2 : mj_H) (b : Int32) (x6 : Option Value) (b1 b2 : Nat), I h2 → hI h2 1412 0 = jI k → (k = 0 → hJ h2 1441 0 = b.toInt64) → p ≤ b1 → 6 * p ≤ b2 → Run 756 (lL (jI ((4 * t : Nat) : Int)) (some (.int (jI k))) x6) [.int b] h2 (b1, b2) := by
    intro h2 b x6 b1 b2 hI2 hcode hout hb1 hb2
    refine hR 60 423 _ _ _ _ _ _ rfl ?_
    exact rT h2 b _ _ hI2 hcode hout hb1 hb2
  have rM : ∀ (x6 : Option Value) (b1 b2 : Nat), p ≤ b1 → 6 * p ≤ b2 → Run 740 (lL (jI ((4 * t : Nat) : Int)) (some (.int (jI k))) x6) [] h1 (b1, b2) := by
    intro x6 b1 b2 hb1 hb2
    refine hR 60 411 _ _ _ _ _ _ rfl ?_
    refine ⟨Or.inr sc.1, vn 1 sc (by decide), Or.inr sc.1, vn 2 sc (by decide), k12', jcallP cm ?_⟩
    intro o2 h2 q2
    obtain ⟨b, e, hI2, hcode, hout⟩ := hm o2 h2 q2
    subst e
    exact r6 h2 b _ _ _ hI2 hcode hout hb1 hb2
  have r5 : ∀ (x5 x6 : Option Value) (b1 b2 : Nat), p ≤ b1 → 6 * p ≤ b2 → Run 738 (lL (jI ((4 * t : Nat) : Int)) x5 x6) [.int (jI k)] h1 (b1, b2) := by
    intro x5 x6 b1 b2 hb1 hb2
    refine hR 60 410 _ _ _ _ _ _ rfl ?_
    exact rM _ _ _ hb1 hb2
  exact r5 _ _ _ _ (by omega) (by omega)
set_option maxRecDepth 20000 in
set_option maxHeartbeats 8000000 in
theorem law_c11 (G : mj_G) {I : mj_H → Prop} {Ln : Nat} {xs : Nat → Int32} (hi : lawI I Ln xs) (hLn : Ln ≤ 2048) {Run : mj_K} (hR : mj_closed G cx_law cd_law (fun o _ => o = .returned (some (.int (jI 1)))) Run) {p t bc bs : Nat} {h : mj_H} (hI' : I h) (hlt : 4 * t + 4 ≤ Ln) (hbc : p + 1 ≤ bc) (hbs : 6 * (p + 1) ≤ bs) (next : lawN I Run p t) (o9 : op1 G I Ln xs 125 259 [.int (xs (4 * t + 1))] h) : ∀ (x5 x6 : Option Value), Run 789 (lL (jI ((4 * t : Nat) : Int)) x5 x6) [] h (bc, bs) := by
  obtain ⟨⟨k0, n0, s0⟩, k1, k12, k41, n41⟩ := hi h hI'
  have vn := fun {h3 : mj_H} (j : Nat) (sc : scr xs Ln h3) (hj : j < 4) => sc_vn (t := t) hLn hlt j sc hj
  have rd := fun {h3 : mj_H} (j : Nat) (sc : scr xs Ln h3) (hj : j < 4) => sc_rd (t := t) hLn hlt j sc hj
  intro x5 x6
  obtain ⟨Pw, cw, hw⟩ := o9
  have cw' := cw
  rw [← rd (h3 := h) 1 ⟨k0, n0, s0⟩ (by decide)] at cw'
  refine hR 60 442 _ _ _ _ _ _ rfl ?_
  refine ⟨Or.inr k0, vn 1 ⟨k0, n0, s0⟩ (by decide), 1, 6, Pw, cw', by omega, by omega, fun o h1 q => ?_⟩
  obtain ⟨k, hk, e, sc, k12', Pm, cm, hm⟩ := hw o h1 q
  subst e
  rw [← rd (h3 := h1) 1 sc (by decide)] at cm
  have rE : ∀ (h2 : mj_H) (x6 : Option Value) (b1 b2 : Nat), I h2 → p ≤ b1 → 6 * p ≤ b2 → Run 842 (lL (jI ((4 * t : Nat) : Int)) (some (.int (jI k))) x6) [] h2 (b1, b2) := by
    intro h2 x6 b1 b2 hI2 hb1 hb2
    refine hR 60 476 _ _ _ _ _ _ rfl ?_
    exact next h2 _ _ _ _ hI2 hb1 hb2
  have rO : ∀ (h2 : mj_H) (b : Int32) (b1 b2 : Nat), I h2 → (k = 0 → hJ h2 1441 0 = b.toInt64) → p ≤ b1 → 6 * p ≤ b2 → Run 825 (lL (jI ((4 * t : Nat) : Int)) (some (.int (jI k))) (some (.int b))) [] h2 (b1, b2) := by
    intro h2 b b1 b2 hI2 hout hb1 hb2
    obtain ⟨-, -, -, q41, q42⟩ := hi h2 hI2
    refine hR 60 465 _ _ _ _ _ _ rfl ?_
    refine ⟨fun c => ⟨q41, by rw [q42]; exact jI_in (by omega) (by omega) (by omega), fun _ => rE h2 _ _ _ hI2 hb1 hb2, fun c2 => ?_⟩, fun c => rE h2 _ _ _ hI2 hb1 hb2⟩
    simp (disch := omega) only [mj_lcm, jI_lt, jI_le, jI_eq, jL_lt, jL_le, jL_eq, jI_lt0, jI_0le, jI_0lt, jI_le0, jI_eq0, jL_eq0, jI_L, jI_add, jI_sub, jI_mul, jI_neg, jL_add, jL_sub, jL_mul, jL_neg, jL_I, jI_div, jI_mod, jL_div, jL_mod] at c
    exact absurd (hout c) c2
  have rT : ∀ (h2 : mj_H) (b : Int32) (b1 b2 : Nat), I h2 → hI h2 1412 0 = jI k → (k = 0 → hJ h2 1441 0 = b.toInt64) → p ≤ b1 → 6 * p ≤ b2 → Run 814 (lL (jI ((4 * t : Nat) : Int)) (some (.int (jI k))) (some (.int b))) [] h2 (b1, b2) := by
    intro h2 b b1 b2 hI2 hcode hout hb1 hb2
    obtain ⟨-, -, q12, -, -⟩ := hi h2 hI2
    refine hR 60 459 _ _ _ _ _ _ rfl ?_
    exact ⟨q12, jcall (ct_223 G q12) ⟨fun _ => rO h2 b _ _ hI2 hout hb1 hb2, fun z => absurd hcode z⟩⟩
  have r6 : ∀ (h2 : mj_H) (b : Int32) (x6 : Option Value) (b1 b2 : Nat), I h2 → hI h2 1412 0 = jI k → (k = 0 → hJ h2 1441 0 = b.toInt64) → p ≤ b1 → 6 * p ≤ b2 → Run 812 (lL (jI ((4 * t : Nat) : Int)) (some (.int (jI k))) x6) [.int b] h2 (b1, b2) := by
    intro h2 b x6 b1 b2 hI2 hcode hout hb1 hb2
    refine hR 60 458 _ _ _ _ _ _ rfl ?_
    exact rT h2 b _ _ hI2 hcode hout hb1 hb2
  have rM : ∀ (x6 : Option Value) (b1 b2 : Nat), p ≤ b1 → 6 * p ≤ b2 → Run 802 (lL (jI ((4 * t : Nat) : Int)) (some (.int (jI k))) x6) [] h1 (b1, b2) := by
    intro x6 b1 b2 hb1 hb2
    refine hR 60 451 _ _ _ _ _ _ rfl ?_
    refine ⟨Or.inr sc.1, vn 1 sc (by decide), k12', jcallP cm ?_⟩
    intro o2 h2 q2
    obtain ⟨b, e, hI2, hcode, hout⟩ := hm o2 h2 q2
    subst e
    exact r6 h2 b _ _ _ hI2 hcode hout hb1 hb2
  have r5 : ∀ (x5 x6 : Option Value) (b1 b2 : Nat), p ≤ b1 → 6 * p ≤ b2 → Run 800 (lL (jI ((4 * t : Nat) : Int)) x5 x6) [.int (jI k)] h1 (b1, b2) := by
    intro x5 x6 b1 b2 hb1 hb2
    refine hR 60 450 _ _ _ _ _ _ rfl ?_
    exact rM _ _ _ hb1 hb2
  exact r5 _ _ _ _ (by omega) (by omega)
set_option maxRecDepth 20000 in
set_option maxHeartbeats 8000000 in
theorem law_c12 (G : mj_G) {I : mj_H → Prop} {Ln : Nat} {xs : Nat → Int32} (hi : lawI I Ln xs) (hLn : Ln ≤ 2048) {Run : mj_K} (hR : mj_closed G cx_law cd_law (fun o _ => o = .returned (some (.int (jI 1)))) Run) {p t bc bs : Nat} {h : mj_H} (hI' : I h) (hlt : 4 * t + 4 ≤ Ln) (hbc : p + 1 ≤ bc) (hbs : 6 * (p + 1) ≤ bs) (next : lawN I Run p t) (o9 : op1 G I Ln xs 130 226 [.int (xs (4 * t + 1)), .int (xs (4 * t + 2)), .int (xs (4 * t + 3))] h) : ∀ (x5 x6 : Option Value), Run 845 (lL (jI ((4 * t : Nat) : Int)) x5 x6) [] h (bc, bs) := by
  obtain ⟨⟨k0, n0, s0⟩, k1, k12, k41, n41⟩ := hi h hI'
  have vn := fun {h3 : mj_H} (j : Nat) (sc : scr xs Ln h3) (hj : j < 4) => sc_vn (t := t) hLn hlt j sc hj
  have rd := fun {h3 : mj_H} (j : Nat) (sc : scr xs Ln h3) (hj : j < 4) => sc_rd (t := t) hLn hlt j sc hj
  intro x5 x6
  obtain ⟨Pw, cw, hw⟩ := o9
  have cw' := cw
  rw [← rd (h3 := h) 1 ⟨k0, n0, s0⟩ (by decide), ← rd (h3 := h) 2 ⟨k0, n0, s0⟩ (by decide), ← rd (h3 := h) 3 ⟨k0, n0, s0⟩ (by decide)] at cw'
  refine hR 60 477 _ _ _ _ _ _ rfl ?_
  refine ⟨Or.inr k0, vn 1 ⟨k0, n0, s0⟩ (by decide), Or.inr k0, vn 2 ⟨k0, n0, s0⟩ (by decide), Or.inr k0, vn 3 ⟨k0, n0, s0⟩ (by decide), 1, 6, Pw, cw', by omega, by omega, fun o h1 q => ?_⟩
  obtain ⟨k, hk, e, sc, k12', Pm, cm, hm⟩ := hw o h1 q
  subst e
  rw [← rd (h3 := h1) 1 sc (by decide), ← rd (h3 := h1) 2 sc (by decide), ← rd (h3 := h1) 3 sc (by decide)] at cm
  have rE : ∀ (h2 : mj_H) (x6 : Option Value) (b1 b2 : Nat), I h2 → p ≤ b1 → 6 * p ≤ b2 → Run 922 (lL (jI ((4 * t : Nat) : Int)) (some (.int (jI k))) x6) [] h2 (b1, b2) := by
    intro h2 x6 b1 b2 hI2 hb1 hb2
    refine hR 60 531 _ _ _ _ _ _ rfl ?_
    exact next h2 _ _ _ _ hI2 hb1 hb2
  have rO : ∀ (h2 : mj_H) (b : Int32) (b1 b2 : Nat), I h2 → (k = 0 → hJ h2 1441 0 = b.toInt64) → p ≤ b1 → 6 * p ≤ b2 → Run 905 (lL (jI ((4 * t : Nat) : Int)) (some (.int (jI k))) (some (.int b))) [] h2 (b1, b2) := by
    intro h2 b b1 b2 hI2 hout hb1 hb2
    obtain ⟨-, -, -, q41, q42⟩ := hi h2 hI2
    refine hR 60 520 _ _ _ _ _ _ rfl ?_
    refine ⟨fun c => ⟨q41, by rw [q42]; exact jI_in (by omega) (by omega) (by omega), fun _ => rE h2 _ _ _ hI2 hb1 hb2, fun c2 => ?_⟩, fun c => rE h2 _ _ _ hI2 hb1 hb2⟩
    simp (disch := omega) only [mj_lcm, jI_lt, jI_le, jI_eq, jL_lt, jL_le, jL_eq, jI_lt0, jI_0le, jI_0lt, jI_le0, jI_eq0, jL_eq0, jI_L, jI_add, jI_sub, jI_mul, jI_neg, jL_add, jL_sub, jL_mul, jL_neg, jL_I, jI_div, jI_mod, jL_div, jL_mod] at c
    exact absurd (hout c) c2
  have rT : ∀ (h2 : mj_H) (b : Int32) (b1 b2 : Nat), I h2 → hI h2 1412 0 = jI k → (k = 0 → hJ h2 1441 0 = b.toInt64) → p ≤ b1 → 6 * p ≤ b2 → Run 894 (lL (jI ((4 * t : Nat) : Int)) (some (.int (jI k))) (some (.int b))) [] h2 (b1, b2) := by
    intro h2 b b1 b2 hI2 hcode hout hb1 hb2
    obtain ⟨-, -, q12, -, -⟩ := hi h2 hI2
    refine hR 60 514 _ _ _ _ _ _ rfl ?_
    exact ⟨q12, jcall (ct_223 G q12) ⟨fun _ => rO h2 b _ _ hI2 hout hb1 hb2, fun z => absurd hcode z⟩⟩
  have r6 : ∀ (h2 : mj_H) (b : Int32) (x6 : Option Value) (b1 b2 : Nat), I h2 → hI h2 1412 0 = jI k → (k = 0 → hJ h2 1441 0 = b.toInt64) → p ≤ b1 → 6 * p ≤ b2 → Run 892 (lL (jI ((4 * t : Nat) : Int)) (some (.int (jI k))) x6) [.int b] h2 (b1, b2) := by
    intro h2 b x6 b1 b2 hI2 hcode hout hb1 hb2
    refine hR 60 513 _ _ _ _ _ _ rfl ?_
    exact rT h2 b _ _ hI2 hcode hout hb1 hb2
  have rM : ∀ (x6 : Option Value) (b1 b2 : Nat), p ≤ b1 → 6 * p ≤ b2 → Run 870 (lL (jI ((4 * t : Nat) : Int)) (some (.int (jI k))) x6) [] h1 (b1, b2) := by
    intro x6 b1 b2 hb1 hb2
    refine hR 60 496 _ _ _ _ _ _ rfl ?_
    refine ⟨Or.inr sc.1, vn 1 sc (by decide), Or.inr sc.1, vn 2 sc (by decide), Or.inr sc.1, vn 3 sc (by decide), k12', jcallP cm ?_⟩
    intro o2 h2 q2
    obtain ⟨b, e, hI2, hcode, hout⟩ := hm o2 h2 q2
    subst e
    exact r6 h2 b _ _ _ hI2 hcode hout hb1 hb2
  have r5 : ∀ (x5 x6 : Option Value) (b1 b2 : Nat), p ≤ b1 → 6 * p ≤ b2 → Run 868 (lL (jI ((4 * t : Nat) : Int)) x5 x6) [.int (jI k)] h1 (b1, b2) := by
    intro x5 x6 b1 b2 hb1 hb2
    refine hR 60 495 _ _ _ _ _ _ rfl ?_
    exact rM _ _ _ hb1 hb2
  exact r5 _ _ _ _ (by omega) (by omega)
set_option maxRecDepth 20000 in
set_option maxHeartbeats 8000000 in
theorem law_c13 (G : mj_G) {I : mj_H → Prop} {Ln : Nat} {xs : Nat → Int32} (hi : lawI I Ln xs) (hLn : Ln ≤ 2048) {Run : mj_K} (hR : mj_closed G cx_law cd_law (fun o _ => o = .returned (some (.int (jI 1)))) Run) {p t bc bs : Nat} {h : mj_H} (hI' : I h) (hlt : 4 * t + 4 ≤ Ln) (hbc : p + 1 ≤ bc) (hbs : 6 * (p + 1) ≤ bs) (next : lawN I Run p t) (o9 : op1 G I Ln xs 134 274 [.int (xs (4 * t + 1))] h) : ∀ (x5 x6 : Option Value), Run 925 (lL (jI ((4 * t : Nat) : Int)) x5 x6) [] h (bc, bs) := by
  obtain ⟨⟨k0, n0, s0⟩, k1, k12, k41, n41⟩ := hi h hI'
  have vn := fun {h3 : mj_H} (j : Nat) (sc : scr xs Ln h3) (hj : j < 4) => sc_vn (t := t) hLn hlt j sc hj
  have rd := fun {h3 : mj_H} (j : Nat) (sc : scr xs Ln h3) (hj : j < 4) => sc_rd (t := t) hLn hlt j sc hj
  intro x5 x6
  obtain ⟨Pw, cw, hw⟩ := o9
  have cw' := cw
  rw [← rd (h3 := h) 1 ⟨k0, n0, s0⟩ (by decide)] at cw'
  refine hR 60 532 _ _ _ _ _ _ rfl ?_
  refine ⟨Or.inr k0, vn 1 ⟨k0, n0, s0⟩ (by decide), 1, 6, Pw, cw', by omega, by omega, fun o h1 q => ?_⟩
  obtain ⟨k, hk, e, sc, k12', Pm, cm, hm⟩ := hw o h1 q
  subst e
  rw [← rd (h3 := h1) 1 sc (by decide)] at cm
  have rE : ∀ (h2 : mj_H) (x6 : Option Value) (b1 b2 : Nat), I h2 → p ≤ b1 → 6 * p ≤ b2 → Run 978 (lL (jI ((4 * t : Nat) : Int)) (some (.int (jI k))) x6) [] h2 (b1, b2) := by
    intro h2 x6 b1 b2 hI2 hb1 hb2
    refine hR 60 566 _ _ _ _ _ _ rfl ?_
    exact next h2 _ _ _ _ hI2 hb1 hb2
  have rO : ∀ (h2 : mj_H) (b : Int32) (b1 b2 : Nat), I h2 → (k = 0 → hJ h2 1441 0 = b.toInt64) → p ≤ b1 → 6 * p ≤ b2 → Run 961 (lL (jI ((4 * t : Nat) : Int)) (some (.int (jI k))) (some (.int b))) [] h2 (b1, b2) := by
    intro h2 b b1 b2 hI2 hout hb1 hb2
    obtain ⟨-, -, -, q41, q42⟩ := hi h2 hI2
    refine hR 60 555 _ _ _ _ _ _ rfl ?_
    refine ⟨fun c => ⟨q41, by rw [q42]; exact jI_in (by omega) (by omega) (by omega), fun _ => rE h2 _ _ _ hI2 hb1 hb2, fun c2 => ?_⟩, fun c => rE h2 _ _ _ hI2 hb1 hb2⟩
    simp (disch := omega) only [mj_lcm, jI_lt, jI_le, jI_eq, jL_lt, jL_le, jL_eq, jI_lt0, jI_0le, jI_0lt, jI_le0, jI_eq0, jL_eq0, jI_L, jI_add, jI_sub, jI_mul, jI_neg, jL_add, jL_sub, jL_mul, jL_neg, jL_I, jI_div, jI_mod, jL_div, jL_mod] at c
    exact absurd (hout c) c2
  have rT : ∀ (h2 : mj_H) (b : Int32) (b1 b2 : Nat), I h2 → hI h2 1412 0 = jI k → (k = 0 → hJ h2 1441 0 = b.toInt64) → p ≤ b1 → 6 * p ≤ b2 → Run 950 (lL (jI ((4 * t : Nat) : Int)) (some (.int (jI k))) (some (.int b))) [] h2 (b1, b2) := by
    intro h2 b b1 b2 hI2 hcode hout hb1 hb2
    obtain ⟨-, -, q12, -, -⟩ := hi h2 hI2
    refine hR 60 549 _ _ _ _ _ _ rfl ?_
    exact ⟨q12, jcall (ct_223 G q12) ⟨fun _ => rO h2 b _ _ hI2 hout hb1 hb2, fun z => absurd hcode z⟩⟩
  have r6 : ∀ (h2 : mj_H) (b : Int32) (x6 : Option Value) (b1 b2 : Nat), I h2 → hI h2 1412 0 = jI k → (k = 0 → hJ h2 1441 0 = b.toInt64) → p ≤ b1 → 6 * p ≤ b2 → Run 948 (lL (jI ((4 * t : Nat) : Int)) (some (.int (jI k))) x6) [.int b] h2 (b1, b2) := by
    intro h2 b x6 b1 b2 hI2 hcode hout hb1 hb2
    refine hR 60 548 _ _ _ _ _ _ rfl ?_
    exact rT h2 b _ _ hI2 hcode hout hb1 hb2
  have rM : ∀ (x6 : Option Value) (b1 b2 : Nat), p ≤ b1 → 6 * p ≤ b2 → Run 938 (lL (jI ((4 * t : Nat) : Int)) (some (.int (jI k))) x6) [] h1 (b1, b2) := by
    intro x6 b1 b2 hb1 hb2
    refine hR 60 541 _ _ _ _ _ _ rfl ?_
    refine ⟨Or.inr sc.1, vn 1 sc (by decide), k12', jcallP cm ?_⟩
    intro o2 h2 q2
    obtain ⟨b, e, hI2, hcode, hout⟩ := hm o2 h2 q2
    subst e
    exact r6 h2 b _ _ _ hI2 hcode hout hb1 hb2
  have r5 : ∀ (x5 x6 : Option Value) (b1 b2 : Nat), p ≤ b1 → 6 * p ≤ b2 → Run 936 (lL (jI ((4 * t : Nat) : Int)) x5 x6) [.int (jI k)] h1 (b1, b2) := by
    intro x5 x6 b1 b2 hb1 hb2
    refine hR 60 540 _ _ _ _ _ _ rfl ?_
    exact rM _ _ _ hb1 hb2
  exact r5 _ _ _ _ (by omega) (by omega)
set_option maxRecDepth 20000 in
set_option maxHeartbeats 8000000 in
theorem law_c14 (G : mj_G) {I : mj_H → Prop} {Ln : Nat} {xs : Nat → Int32} (hi : lawI I Ln xs) (hLn : Ln ≤ 2048) {Run : mj_K} (hR : mj_closed G cx_law cd_law (fun o _ => o = .returned (some (.int (jI 1)))) Run) {p t bc bs : Nat} {h : mj_H} (hI' : I h) (hlt : 4 * t + 4 ≤ Ln) (hbc : p + 1 ≤ bc) (hbs : 6 * (p + 1) ≤ bs) (next : lawN I Run p t) (o9 : op1 G I Ln xs 136 227 [.int (xs (4 * t + 1))] h) : ∀ (x5 x6 : Option Value), Run 981 (lL (jI ((4 * t : Nat) : Int)) x5 x6) [] h (bc, bs) := by
  obtain ⟨⟨k0, n0, s0⟩, k1, k12, k41, n41⟩ := hi h hI'
  have vn := fun {h3 : mj_H} (j : Nat) (sc : scr xs Ln h3) (hj : j < 4) => sc_vn (t := t) hLn hlt j sc hj
  have rd := fun {h3 : mj_H} (j : Nat) (sc : scr xs Ln h3) (hj : j < 4) => sc_rd (t := t) hLn hlt j sc hj
  intro x5 x6
  obtain ⟨Pw, cw, hw⟩ := o9
  have cw' := cw
  rw [← rd (h3 := h) 1 ⟨k0, n0, s0⟩ (by decide)] at cw'
  refine hR 60 567 _ _ _ _ _ _ rfl ?_
  refine ⟨Or.inr k0, vn 1 ⟨k0, n0, s0⟩ (by decide), 1, 6, Pw, cw', by omega, by omega, fun o h1 q => ?_⟩
  obtain ⟨k, hk, e, sc, k12', Pm, cm, hm⟩ := hw o h1 q
  subst e
  rw [← rd (h3 := h1) 1 sc (by decide)] at cm
  have rE : ∀ (h2 : mj_H) (x6 : Option Value) (b1 b2 : Nat), I h2 → p ≤ b1 → 6 * p ≤ b2 → Run 1034 (lL (jI ((4 * t : Nat) : Int)) (some (.int (jI k))) x6) [] h2 (b1, b2) := by
    intro h2 x6 b1 b2 hI2 hb1 hb2
    refine hR 60 601 _ _ _ _ _ _ rfl ?_
    exact next h2 _ _ _ _ hI2 hb1 hb2
  have rO : ∀ (h2 : mj_H) (b : Int32) (b1 b2 : Nat), I h2 → (k = 0 → hJ h2 1441 0 = b.toInt64) → p ≤ b1 → 6 * p ≤ b2 → Run 1017 (lL (jI ((4 * t : Nat) : Int)) (some (.int (jI k))) (some (.int b))) [] h2 (b1, b2) := by
    intro h2 b b1 b2 hI2 hout hb1 hb2
    obtain ⟨-, -, -, q41, q42⟩ := hi h2 hI2
    refine hR 60 590 _ _ _ _ _ _ rfl ?_
    refine ⟨fun c => ⟨q41, by rw [q42]; exact jI_in (by omega) (by omega) (by omega), fun _ => rE h2 _ _ _ hI2 hb1 hb2, fun c2 => ?_⟩, fun c => rE h2 _ _ _ hI2 hb1 hb2⟩
    simp (disch := omega) only [mj_lcm, jI_lt, jI_le, jI_eq, jL_lt, jL_le, jL_eq, jI_lt0, jI_0le, jI_0lt, jI_le0, jI_eq0, jL_eq0, jI_L, jI_add, jI_sub, jI_mul, jI_neg, jL_add, jL_sub, jL_mul, jL_neg, jL_I, jI_div, jI_mod, jL_div, jL_mod] at c
    exact absurd (hout c) c2
  have rT : ∀ (h2 : mj_H) (b : Int32) (b1 b2 : Nat), I h2 → hI h2 1412 0 = jI k → (k = 0 → hJ h2 1441 0 = b.toInt64) → p ≤ b1 → 6 * p ≤ b2 → Run 1006 (lL (jI ((4 * t : Nat) : Int)) (some (.int (jI k))) (some (.int b))) [] h2 (b1, b2) := by
    intro h2 b b1 b2 hI2 hcode hout hb1 hb2
    obtain ⟨-, -, q12, -, -⟩ := hi h2 hI2
    refine hR 60 584 _ _ _ _ _ _ rfl ?_
    exact ⟨q12, jcall (ct_223 G q12) ⟨fun _ => rO h2 b _ _ hI2 hout hb1 hb2, fun z => absurd hcode z⟩⟩
  have r6 : ∀ (h2 : mj_H) (b : Int32) (x6 : Option Value) (b1 b2 : Nat), I h2 → hI h2 1412 0 = jI k → (k = 0 → hJ h2 1441 0 = b.toInt64) → p ≤ b1 → 6 * p ≤ b2 → Run 1004 (lL (jI ((4 * t : Nat) : Int)) (some (.int (jI k))) x6) [.int b] h2 (b1, b2) := by
    intro h2 b x6 b1 b2 hI2 hcode hout hb1 hb2
    refine hR 60 583 _ _ _ _ _ _ rfl ?_
    exact rT h2 b _ _ hI2 hcode hout hb1 hb2
  have rM : ∀ (x6 : Option Value) (b1 b2 : Nat), p ≤ b1 → 6 * p ≤ b2 → Run 994 (lL (jI ((4 * t : Nat) : Int)) (some (.int (jI k))) x6) [] h1 (b1, b2) := by
    intro x6 b1 b2 hb1 hb2
    refine hR 60 576 _ _ _ _ _ _ rfl ?_
    refine ⟨Or.inr sc.1, vn 1 sc (by decide), k12', jcallP cm ?_⟩
    intro o2 h2 q2
    obtain ⟨b, e, hI2, hcode, hout⟩ := hm o2 h2 q2
    subst e
    exact r6 h2 b _ _ _ hI2 hcode hout hb1 hb2
  have r5 : ∀ (x5 x6 : Option Value) (b1 b2 : Nat), p ≤ b1 → 6 * p ≤ b2 → Run 992 (lL (jI ((4 * t : Nat) : Int)) x5 x6) [.int (jI k)] h1 (b1, b2) := by
    intro x5 x6 b1 b2 hb1 hb2
    refine hR 60 575 _ _ _ _ _ _ rfl ?_
    exact rM _ _ _ hb1 hb2
  exact r5 _ _ _ _ (by omega) (by omega)
set_option maxRecDepth 20000 in
set_option maxHeartbeats 8000000 in
theorem law_c15 (G : mj_G) {I : mj_H → Prop} {Ln : Nat} {xs : Nat → Int32} (hi : lawI I Ln xs) (hLn : Ln ≤ 2048) {Run : mj_K} (hR : mj_closed G cx_law cd_law (fun o _ => o = .returned (some (.int (jI 1)))) Run) {p t bc bs : Nat} {h : mj_H} (hI' : I h) (hlt : 4 * t + 4 ≤ Ln) (hbc : p + 1 ≤ bc) (hbs : 6 * (p + 1) ≤ bs) (next : lawN I Run p t) (o9 : op1 G I Ln xs 170 275 [.int (xs (4 * t + 1))] h) : ∀ (x5 x6 : Option Value), Run 1037 (lL (jI ((4 * t : Nat) : Int)) x5 x6) [] h (bc, bs) := by
  obtain ⟨⟨k0, n0, s0⟩, k1, k12, k41, n41⟩ := hi h hI'
  have vn := fun {h3 : mj_H} (j : Nat) (sc : scr xs Ln h3) (hj : j < 4) => sc_vn (t := t) hLn hlt j sc hj
  have rd := fun {h3 : mj_H} (j : Nat) (sc : scr xs Ln h3) (hj : j < 4) => sc_rd (t := t) hLn hlt j sc hj
  intro x5 x6
  obtain ⟨Pw, cw, hw⟩ := o9
  have cw' := cw
  rw [← rd (h3 := h) 1 ⟨k0, n0, s0⟩ (by decide)] at cw'
  refine hR 60 602 _ _ _ _ _ _ rfl ?_
  refine ⟨Or.inr k0, vn 1 ⟨k0, n0, s0⟩ (by decide), 1, 6, Pw, cw', by omega, by omega, fun o h1 q => ?_⟩
  obtain ⟨k, hk, e, sc, k12', Pm, cm, hm⟩ := hw o h1 q
  subst e
  rw [← rd (h3 := h1) 1 sc (by decide)] at cm
  have rE : ∀ (h2 : mj_H) (x6 : Option Value) (b1 b2 : Nat), I h2 → p ≤ b1 → 6 * p ≤ b2 → Run 1090 (lL (jI ((4 * t : Nat) : Int)) (some (.int (jI k))) x6) [] h2 (b1, b2) := by
    intro h2 x6 b1 b2 hI2 hb1 hb2
    refine hR 60 636 _ _ _ _ _ _ rfl ?_
    exact next h2 _ _ _ _ hI2 hb1 hb2
  have rO : ∀ (h2 : mj_H) (b : Int32) (b1 b2 : Nat), I h2 → (k = 0 → hJ h2 1441 0 = b.toInt64) → p ≤ b1 → 6 * p ≤ b2 → Run 1073 (lL (jI ((4 * t : Nat) : Int)) (some (.int (jI k))) (some (.int b))) [] h2 (b1, b2) := by
    intro h2 b b1 b2 hI2 hout hb1 hb2
    obtain ⟨-, -, -, q41, q42⟩ := hi h2 hI2
    refine hR 60 625 _ _ _ _ _ _ rfl ?_
    refine ⟨fun c => ⟨q41, by rw [q42]; exact jI_in (by omega) (by omega) (by omega), fun _ => rE h2 _ _ _ hI2 hb1 hb2, fun c2 => ?_⟩, fun c => rE h2 _ _ _ hI2 hb1 hb2⟩
    simp (disch := omega) only [mj_lcm, jI_lt, jI_le, jI_eq, jL_lt, jL_le, jL_eq, jI_lt0, jI_0le, jI_0lt, jI_le0, jI_eq0, jL_eq0, jI_L, jI_add, jI_sub, jI_mul, jI_neg, jL_add, jL_sub, jL_mul, jL_neg, jL_I, jI_div, jI_mod, jL_div, jL_mod] at c
    exact absurd (hout c) c2
  have rT : ∀ (h2 : mj_H) (b : Int32) (b1 b2 : Nat), I h2 → hI h2 1412 0 = jI k → (k = 0 → hJ h2 1441 0 = b.toInt64) → p ≤ b1 → 6 * p ≤ b2 → Run 1062 (lL (jI ((4 * t : Nat) : Int)) (some (.int (jI k))) (some (.int b))) [] h2 (b1, b2) := by
    intro h2 b b1 b2 hI2 hcode hout hb1 hb2
    obtain ⟨-, -, q12, -, -⟩ := hi h2 hI2
    refine hR 60 619 _ _ _ _ _ _ rfl ?_
    exact ⟨q12, jcall (ct_223 G q12) ⟨fun _ => rO h2 b _ _ hI2 hout hb1 hb2, fun z => absurd hcode z⟩⟩
  have r6 : ∀ (h2 : mj_H) (b : Int32) (x6 : Option Value) (b1 b2 : Nat), I h2 → hI h2 1412 0 = jI k → (k = 0 → hJ h2 1441 0 = b.toInt64) → p ≤ b1 → 6 * p ≤ b2 → Run 1060 (lL (jI ((4 * t : Nat) : Int)) (some (.int (jI k))) x6) [.int b] h2 (b1, b2) := by
    intro h2 b x6 b1 b2 hI2 hcode hout hb1 hb2
    refine hR 60 618 _ _ _ _ _ _ rfl ?_
    exact rT h2 b _ _ hI2 hcode hout hb1 hb2
  have rM : ∀ (x6 : Option Value) (b1 b2 : Nat), p ≤ b1 → 6 * p ≤ b2 → Run 1050 (lL (jI ((4 * t : Nat) : Int)) (some (.int (jI k))) x6) [] h1 (b1, b2) := by
    intro x6 b1 b2 hb1 hb2
    refine hR 60 611 _ _ _ _ _ _ rfl ?_
    refine ⟨Or.inr sc.1, vn 1 sc (by decide), k12', jcallP cm ?_⟩
    intro o2 h2 q2
    obtain ⟨b, e, hI2, hcode, hout⟩ := hm o2 h2 q2
    subst e
    exact r6 h2 b _ _ _ hI2 hcode hout hb1 hb2
  have r5 : ∀ (x5 x6 : Option Value) (b1 b2 : Nat), p ≤ b1 → 6 * p ≤ b2 → Run 1048 (lL (jI ((4 * t : Nat) : Int)) x5 x6) [.int (jI k)] h1 (b1, b2) := by
    intro x5 x6 b1 b2 hb1 hb2
    refine hR 60 610 _ _ _ _ _ _ rfl ?_
    exact rM _ _ _ hb1 hb2
  exact r5 _ _ _ _ (by omega) (by omega)
set_option maxRecDepth 20000 in
set_option maxHeartbeats 8000000 in
theorem law_c16 (G : mj_G) {I : mj_H → Prop} {Ln : Nat} {xs : Nat → Int32} (hi : lawI I Ln xs) (hLn : Ln ≤ 2048) {Run : mj_K} (hR : mj_closed G cx_law cd_law (fun o _ => o = .returned (some (.int (jI 1)))) Run) {p t bc bs : Nat} {h : mj_H} (hI' : I h) (hlt : 4 * t + 4 ≤ Ln) (hbc : p + 1 ≤ bc) (hbs : 6 * (p + 1) ≤ bs) (next : lawN I Run p t) (o9 : op1 G I Ln xs 172 277 [.int (xs (4 * t + 1))] h) : ∀ (x5 x6 : Option Value), Run 1093 (lL (jI ((4 * t : Nat) : Int)) x5 x6) [] h (bc, bs) := by
  obtain ⟨⟨k0, n0, s0⟩, k1, k12, k41, n41⟩ := hi h hI'
  have vn := fun {h3 : mj_H} (j : Nat) (sc : scr xs Ln h3) (hj : j < 4) => sc_vn (t := t) hLn hlt j sc hj
  have rd := fun {h3 : mj_H} (j : Nat) (sc : scr xs Ln h3) (hj : j < 4) => sc_rd (t := t) hLn hlt j sc hj
  intro x5 x6
  obtain ⟨Pw, cw, hw⟩ := o9
  have cw' := cw
  rw [← rd (h3 := h) 1 ⟨k0, n0, s0⟩ (by decide)] at cw'
  refine hR 60 637 _ _ _ _ _ _ rfl ?_
  refine ⟨Or.inr k0, vn 1 ⟨k0, n0, s0⟩ (by decide), 1, 6, Pw, cw', by omega, by omega, fun o h1 q => ?_⟩
  obtain ⟨k, hk, e, sc, k12', Pm, cm, hm⟩ := hw o h1 q
  subst e
  rw [← rd (h3 := h1) 1 sc (by decide)] at cm
  have rE : ∀ (h2 : mj_H) (x6 : Option Value) (b1 b2 : Nat), I h2 → p ≤ b1 → 6 * p ≤ b2 → Run 1146 (lL (jI ((4 * t : Nat) : Int)) (some (.int (jI k))) x6) [] h2 (b1, b2) := by
    intro h2 x6 b1 b2 hI2 hb1 hb2
    refine hR 60 671 _ _ _ _ _ _ rfl ?_
    exact next h2 _ _ _ _ hI2 hb1 hb2
  have rO : ∀ (h2 : mj_H) (b : Int32) (b1 b2 : Nat), I h2 → (k = 0 → hJ h2 1441 0 = b.toInt64) → p ≤ b1 → 6 * p ≤ b2 → Run 1129 (lL (jI ((4 * t : Nat) : Int)) (some (.int (jI k))) (some (.int b))) [] h2 (b1, b2) := by
    intro h2 b b1 b2 hI2 hout hb1 hb2
    obtain ⟨-, -, -, q41, q42⟩ := hi h2 hI2
    refine hR 60 660 _ _ _ _ _ _ rfl ?_
    refine ⟨fun c => ⟨q41, by rw [q42]; exact jI_in (by omega) (by omega) (by omega), fun _ => rE h2 _ _ _ hI2 hb1 hb2, fun c2 => ?_⟩, fun c => rE h2 _ _ _ hI2 hb1 hb2⟩
    simp (disch := omega) only [mj_lcm, jI_lt, jI_le, jI_eq, jL_lt, jL_le, jL_eq, jI_lt0, jI_0le, jI_0lt, jI_le0, jI_eq0, jL_eq0, jI_L, jI_add, jI_sub, jI_mul, jI_neg, jL_add, jL_sub, jL_mul, jL_neg, jL_I, jI_div, jI_mod, jL_div, jL_mod] at c
    exact absurd (hout c) c2
  have rT : ∀ (h2 : mj_H) (b : Int32) (b1 b2 : Nat), I h2 → hI h2 1412 0 = jI k → (k = 0 → hJ h2 1441 0 = b.toInt64) → p ≤ b1 → 6 * p ≤ b2 → Run 1118 (lL (jI ((4 * t : Nat) : Int)) (some (.int (jI k))) (some (.int b))) [] h2 (b1, b2) := by
    intro h2 b b1 b2 hI2 hcode hout hb1 hb2
    obtain ⟨-, -, q12, -, -⟩ := hi h2 hI2
    refine hR 60 654 _ _ _ _ _ _ rfl ?_
    exact ⟨q12, jcall (ct_223 G q12) ⟨fun _ => rO h2 b _ _ hI2 hout hb1 hb2, fun z => absurd hcode z⟩⟩
  have r6 : ∀ (h2 : mj_H) (b : Int32) (x6 : Option Value) (b1 b2 : Nat), I h2 → hI h2 1412 0 = jI k → (k = 0 → hJ h2 1441 0 = b.toInt64) → p ≤ b1 → 6 * p ≤ b2 → Run 1116 (lL (jI ((4 * t : Nat) : Int)) (some (.int (jI k))) x6) [.int b] h2 (b1, b2) := by
    intro h2 b x6 b1 b2 hI2 hcode hout hb1 hb2
    refine hR 60 653 _ _ _ _ _ _ rfl ?_
    exact rT h2 b _ _ hI2 hcode hout hb1 hb2
  have rM : ∀ (x6 : Option Value) (b1 b2 : Nat), p ≤ b1 → 6 * p ≤ b2 → Run 1106 (lL (jI ((4 * t : Nat) : Int)) (some (.int (jI k))) x6) [] h1 (b1, b2) := by
    intro x6 b1 b2 hb1 hb2
    refine hR 60 646 _ _ _ _ _ _ rfl ?_
    refine ⟨Or.inr sc.1, vn 1 sc (by decide), k12', jcallP cm ?_⟩
    intro o2 h2 q2
    obtain ⟨b, e, hI2, hcode, hout⟩ := hm o2 h2 q2
    subst e
    exact r6 h2 b _ _ _ hI2 hcode hout hb1 hb2
  have r5 : ∀ (x5 x6 : Option Value) (b1 b2 : Nat), p ≤ b1 → 6 * p ≤ b2 → Run 1104 (lL (jI ((4 * t : Nat) : Int)) x5 x6) [.int (jI k)] h1 (b1, b2) := by
    intro x5 x6 b1 b2 hb1 hb2
    refine hR 60 645 _ _ _ _ _ _ rfl ?_
    exact rM _ _ _ hb1 hb2
  exact r5 _ _ _ _ (by omega) (by omega)
set_option maxRecDepth 20000 in
set_option maxHeartbeats 8000000 in
theorem law_c17 (G : mj_G) {I : mj_H → Prop} {Ln : Nat} {xs : Nat → Int32} (hi : lawI I Ln xs) (hLn : Ln ≤ 2048) {Run : mj_K} (hR : mj_closed G cx_law cd_law (fun o _ => o = .returned (some (.int (jI 1)))) Run) {p t bc bs : Nat} {h : mj_H} (hI' : I h) (hlt : 4 * t + 4 ≤ Ln) (hbc : p + 1 ≤ bc) (hbs : 6 * (p + 1) ≤ bs) (next : lawN I Run p t) (o9 : op1 G I Ln xs 174 258 [.int (xs (4 * t + 1))] h) : ∀ (x5 x6 : Option Value), Run 1149 (lL (jI ((4 * t : Nat) : Int)) x5 x6) [] h (bc, bs) := by
  obtain ⟨⟨k0, n0, s0⟩, k1, k12, k41, n41⟩ := hi h hI'
  have vn := fun {h3 : mj_H} (j : Nat) (sc : scr xs Ln h3) (hj : j < 4) => sc_vn (t := t) hLn hlt j sc hj
  have rd := fun {h3 : mj_H} (j : Nat) (sc : scr xs Ln h3) (hj : j < 4) => sc_rd (t := t) hLn hlt j sc hj
  intro x5 x6
  obtain ⟨Pw, cw, hw⟩ := o9
  have cw' := cw
  rw [← rd (h3 := h) 1 ⟨k0, n0, s0⟩ (by decide)] at cw'
  refine hR 60 672 _ _ _ _ _ _ rfl ?_
  refine ⟨Or.inr k0, vn 1 ⟨k0, n0, s0⟩ (by decide), 1, 6, Pw, cw', by omega, by omega, fun o h1 q => ?_⟩
  obtain ⟨k, hk, e, sc, k12', Pm, cm, hm⟩ := hw o h1 q
  subst e
  rw [← rd (h3 := h1) 1 sc (by decide)] at cm
  have rE : ∀ (h2 : mj_H) (x6 : Option Value) (b1 b2 : Nat), I h2 → p ≤ b1 → 6 * p ≤ b2 → Run 1202 (lL (jI ((4 * t : Nat) : Int)) (some (.int (jI k))) x6) [] h2 (b1, b2) := by
    intro h2 x6 b1 b2 hI2 hb1 hb2
    refine hR 60 706 _ _ _ _ _ _ rfl ?_
    exact next h2 _ _ _ _ hI2 hb1 hb2
  have rO : ∀ (h2 : mj_H) (b : Int32) (b1 b2 : Nat), I h2 → (k = 0 → hJ h2 1441 0 = b.toInt64) → p ≤ b1 → 6 * p ≤ b2 → Run 1185 (lL (jI ((4 * t : Nat) : Int)) (some (.int (jI k))) (some (.int b))) [] h2 (b1, b2) := by
    intro h2 b b1 b2 hI2 hout hb1 hb2
    obtain ⟨-, -, -, q41, q42⟩ := hi h2 hI2
    refine hR 60 695 _ _ _ _ _ _ rfl ?_
    refine ⟨fun c => ⟨q41, by rw [q42]; exact jI_in (by omega) (by omega) (by omega), fun _ => rE h2 _ _ _ hI2 hb1 hb2, fun c2 => ?_⟩, fun c => rE h2 _ _ _ hI2 hb1 hb2⟩
    simp (disch := omega) only [mj_lcm, jI_lt, jI_le, jI_eq, jL_lt, jL_le, jL_eq, jI_lt0, jI_0le, jI_0lt, jI_le0, jI_eq0, jL_eq0, jI_L, jI_add, jI_sub, jI_mul, jI_neg, jL_add, jL_sub, jL_mul, jL_neg, jL_I, jI_div, jI_mod, jL_div, jL_mod] at c
    exact absurd (hout c) c2
  have rT : ∀ (h2 : mj_H) (b : Int32) (b1 b2 : Nat), I h2 → hI h2 1412 0 = jI k → (k = 0 → hJ h2 1441 0 = b.toInt64) → p ≤ b1 → 6 * p ≤ b2 → Run 1174 (lL (jI ((4 * t : Nat) : Int)) (some (.int (jI k))) (some (.int b))) [] h2 (b1, b2) := by
    intro h2 b b1 b2 hI2 hcode hout hb1 hb2
    obtain ⟨-, -, q12, -, -⟩ := hi h2 hI2
    refine hR 60 689 _ _ _ _ _ _ rfl ?_
    exact ⟨q12, jcall (ct_223 G q12) ⟨fun _ => rO h2 b _ _ hI2 hout hb1 hb2, fun z => absurd hcode z⟩⟩
  have r6 : ∀ (h2 : mj_H) (b : Int32) (x6 : Option Value) (b1 b2 : Nat), I h2 → hI h2 1412 0 = jI k → (k = 0 → hJ h2 1441 0 = b.toInt64) → p ≤ b1 → 6 * p ≤ b2 → Run 1172 (lL (jI ((4 * t : Nat) : Int)) (some (.int (jI k))) x6) [.int b] h2 (b1, b2) := by
    intro h2 b x6 b1 b2 hI2 hcode hout hb1 hb2
    refine hR 60 688 _ _ _ _ _ _ rfl ?_
    exact rT h2 b _ _ hI2 hcode hout hb1 hb2
  have rM : ∀ (x6 : Option Value) (b1 b2 : Nat), p ≤ b1 → 6 * p ≤ b2 → Run 1162 (lL (jI ((4 * t : Nat) : Int)) (some (.int (jI k))) x6) [] h1 (b1, b2) := by
    intro x6 b1 b2 hb1 hb2
    refine hR 60 681 _ _ _ _ _ _ rfl ?_
    refine ⟨Or.inr sc.1, vn 1 sc (by decide), k12', jcallP cm ?_⟩
    intro o2 h2 q2
    obtain ⟨b, e, hI2, hcode, hout⟩ := hm o2 h2 q2
    subst e
    exact r6 h2 b _ _ _ hI2 hcode hout hb1 hb2
  have r5 : ∀ (x5 x6 : Option Value) (b1 b2 : Nat), p ≤ b1 → 6 * p ≤ b2 → Run 1160 (lL (jI ((4 * t : Nat) : Int)) x5 x6) [.int (jI k)] h1 (b1, b2) := by
    intro x5 x6 b1 b2 hb1 hb2
    refine hR 60 680 _ _ _ _ _ _ rfl ?_
    exact rM _ _ _ hb1 hb2
  exact r5 _ _ _ _ (by omega) (by omega)
set_option maxRecDepth 20000 in
set_option maxHeartbeats 8000000 in
theorem law_c18 (G : mj_G) {I : mj_H → Prop} {Ln : Nat} {xs : Nat → Int32} (hi : lawI I Ln xs) (hLn : Ln ≤ 2048) {Run : mj_K} (hR : mj_closed G cx_law cd_law (fun o _ => o = .returned (some (.int (jI 1)))) Run) {p t bc bs : Nat} {h : mj_H} (hI' : I h) (hlt : 4 * t + 4 ≤ Ln) (hbc : p + 1 ≤ bc) (hbs : 6 * (p + 1) ≤ bs) (next : lawN I Run p t) (o9 : op1 G I Ln xs 176 278 [.int (xs (4 * t + 1))] h) : ∀ (x5 x6 : Option Value), Run 1205 (lL (jI ((4 * t : Nat) : Int)) x5 x6) [] h (bc, bs) := by
  obtain ⟨⟨k0, n0, s0⟩, k1, k12, k41, n41⟩ := hi h hI'
  have vn := fun {h3 : mj_H} (j : Nat) (sc : scr xs Ln h3) (hj : j < 4) => sc_vn (t := t) hLn hlt j sc hj
  have rd := fun {h3 : mj_H} (j : Nat) (sc : scr xs Ln h3) (hj : j < 4) => sc_rd (t := t) hLn hlt j sc hj
  intro x5 x6
  obtain ⟨Pw, cw, hw⟩ := o9
  have cw' := cw
  rw [← rd (h3 := h) 1 ⟨k0, n0, s0⟩ (by decide)] at cw'
  refine hR 60 707 _ _ _ _ _ _ rfl ?_
  refine ⟨Or.inr k0, vn 1 ⟨k0, n0, s0⟩ (by decide), 1, 6, Pw, cw', by omega, by omega, fun o h1 q => ?_⟩
  obtain ⟨k, hk, e, sc, k12', Pm, cm, hm⟩ := hw o h1 q
  subst e
  rw [← rd (h3 := h1) 1 sc (by decide)] at cm
  have rE : ∀ (h2 : mj_H) (x6 : Option Value) (b1 b2 : Nat), I h2 → p ≤ b1 → 6 * p ≤ b2 → Run 1258 (lL (jI ((4 * t : Nat) : Int)) (some (.int (jI k))) x6) [] h2 (b1, b2) := by
    intro h2 x6 b1 b2 hI2 hb1 hb2
    refine hR 60 741 _ _ _ _ _ _ rfl ?_
    exact next h2 _ _ _ _ hI2 hb1 hb2
  have rO : ∀ (h2 : mj_H) (b : Int32) (b1 b2 : Nat), I h2 → (k = 0 → hJ h2 1441 0 = b.toInt64) → p ≤ b1 → 6 * p ≤ b2 → Run 1241 (lL (jI ((4 * t : Nat) : Int)) (some (.int (jI k))) (some (.int b))) [] h2 (b1, b2) := by
    intro h2 b b1 b2 hI2 hout hb1 hb2
    obtain ⟨-, -, -, q41, q42⟩ := hi h2 hI2
    refine hR 60 730 _ _ _ _ _ _ rfl ?_
    refine ⟨fun c => ⟨q41, by rw [q42]; exact jI_in (by omega) (by omega) (by omega), fun _ => rE h2 _ _ _ hI2 hb1 hb2, fun c2 => ?_⟩, fun c => rE h2 _ _ _ hI2 hb1 hb2⟩
    simp (disch := omega) only [mj_lcm, jI_lt, jI_le, jI_eq, jL_lt, jL_le, jL_eq, jI_lt0, jI_0le, jI_0lt, jI_le0, jI_eq0, jL_eq0, jI_L, jI_add, jI_sub, jI_mul, jI_neg, jL_add, jL_sub, jL_mul, jL_neg, jL_I, jI_div, jI_mod, jL_div, jL_mod] at c
    exact absurd (hout c) c2
  have rT : ∀ (h2 : mj_H) (b : Int32) (b1 b2 : Nat), I h2 → hI h2 1412 0 = jI k → (k = 0 → hJ h2 1441 0 = b.toInt64) → p ≤ b1 → 6 * p ≤ b2 → Run 1230 (lL (jI ((4 * t : Nat) : Int)) (some (.int (jI k))) (some (.int b))) [] h2 (b1, b2) := by
    intro h2 b b1 b2 hI2 hcode hout hb1 hb2
    obtain ⟨-, -, q12, -, -⟩ := hi h2 hI2
    refine hR 60 724 _ _ _ _ _ _ rfl ?_
    exact ⟨q12, jcall (ct_223 G q12) ⟨fun _ => rO h2 b _ _ hI2 hout hb1 hb2, fun z => absurd hcode z⟩⟩
  have r6 : ∀ (h2 : mj_H) (b : Int32) (x6 : Option Value) (b1 b2 : Nat), I h2 → hI h2 1412 0 = jI k → (k = 0 → hJ h2 1441 0 = b.toInt64) → p ≤ b1 → 6 * p ≤ b2 → Run 1228 (lL (jI ((4 * t : Nat) : Int)) (some (.int (jI k))) x6) [.int b] h2 (b1, b2) := by
    intro h2 b x6 b1 b2 hI2 hcode hout hb1 hb2
    refine hR 60 723 _ _ _ _ _ _ rfl ?_
    exact rT h2 b _ _ hI2 hcode hout hb1 hb2
  have rM : ∀ (x6 : Option Value) (b1 b2 : Nat), p ≤ b1 → 6 * p ≤ b2 → Run 1218 (lL (jI ((4 * t : Nat) : Int)) (some (.int (jI k))) x6) [] h1 (b1, b2) := by
    intro x6 b1 b2 hb1 hb2
    refine hR 60 716 _ _ _ _ _ _ rfl ?_
    refine ⟨Or.inr sc.1, vn 1 sc (by decide), k12', jcallP cm ?_⟩
    intro o2 h2 q2
    obtain ⟨b, e, hI2, hcode, hout⟩ := hm o2 h2 q2
    subst e
    exact r6 h2 b _ _ _ hI2 hcode hout hb1 hb2
  have r5 : ∀ (x5 x6 : Option Value) (b1 b2 : Nat), p ≤ b1 → 6 * p ≤ b2 → Run 1216 (lL (jI ((4 * t : Nat) : Int)) x5 x6) [.int (jI k)] h1 (b1, b2) := by
    intro x5 x6 b1 b2 hb1 hb2
    refine hR 60 715 _ _ _ _ _ _ rfl ?_
    exact rM _ _ _ hb1 hb2
  exact r5 _ _ _ _ (by omega) (by omega)
set_option maxRecDepth 20000 in
set_option maxHeartbeats 8000000 in
theorem law_c19 (G : mj_G) {I : mj_H → Prop} {Ln : Nat} {xs : Nat → Int32} (hi : lawI I Ln xs) (hLn : Ln ≤ 2048) {Run : mj_K} (hR : mj_closed G cx_law cd_law (fun o _ => o = .returned (some (.int (jI 1)))) Run) {p t bc bs : Nat} {h : mj_H} (hI' : I h) (hlt : 4 * t + 4 ≤ Ln) (hbc : p + 1 ≤ bc) (hbs : 6 * (p + 1) ≤ bs) (next : lawN I Run p t) (o9 : op1 G I Ln xs 178 279 [.int (xs (4 * t + 1))] h) : ∀ (x5 x6 : Option Value), Run 1261 (lL (jI ((4 * t : Nat) : Int)) x5 x6) [] h (bc, bs) := by
  obtain ⟨⟨k0, n0, s0⟩, k1, k12, k41, n41⟩ := hi h hI'
  have vn := fun {h3 : mj_H} (j : Nat) (sc : scr xs Ln h3) (hj : j < 4) => sc_vn (t := t) hLn hlt j sc hj
  have rd := fun {h3 : mj_H} (j : Nat) (sc : scr xs Ln h3) (hj : j < 4) => sc_rd (t := t) hLn hlt j sc hj
  intro x5 x6
  obtain ⟨Pw, cw, hw⟩ := o9
  have cw' := cw
  rw [← rd (h3 := h) 1 ⟨k0, n0, s0⟩ (by decide)] at cw'
  refine hR 60 742 _ _ _ _ _ _ rfl ?_
  refine ⟨Or.inr k0, vn 1 ⟨k0, n0, s0⟩ (by decide), 1, 6, Pw, cw', by omega, by omega, fun o h1 q => ?_⟩
  obtain ⟨k, hk, e, sc, k12', Pm, cm, hm⟩ := hw o h1 q
  subst e
  rw [← rd (h3 := h1) 1 sc (by decide)] at cm
  have rE : ∀ (h2 : mj_H) (x6 : Option Value) (b1 b2 : Nat), I h2 → p ≤ b1 → 6 * p ≤ b2 → Run 1314 (lL (jI ((4 * t : Nat) : Int)) (some (.int (jI k))) x6) [] h2 (b1, b2) := by
    intro h2 x6 b1 b2 hI2 hb1 hb2
    refine hR 60 776 _ _ _ _ _ _ rfl ?_
    exact next h2 _ _ _ _ hI2 hb1 hb2
  have rO : ∀ (h2 : mj_H) (b : Int32) (b1 b2 : Nat), I h2 → (k = 0 → hJ h2 1441 0 = b.toInt64) → p ≤ b1 → 6 * p ≤ b2 → Run 1297 (lL (jI ((4 * t : Nat) : Int)) (some (.int (jI k))) (some (.int b))) [] h2 (b1, b2) := by
    intro h2 b b1 b2 hI2 hout hb1 hb2
    obtain ⟨-, -, -, q41, q42⟩ := hi h2 hI2
    refine hR 60 765 _ _ _ _ _ _ rfl ?_
    refine ⟨fun c => ⟨q41, by rw [q42]; exact jI_in (by omega) (by omega) (by omega), fun _ => rE h2 _ _ _ hI2 hb1 hb2, fun c2 => ?_⟩, fun c => rE h2 _ _ _ hI2 hb1 hb2⟩
    simp (disch := omega) only [mj_lcm, jI_lt, jI_le, jI_eq, jL_lt, jL_le, jL_eq, jI_lt0, jI_0le, jI_0lt, jI_le0, jI_eq0, jL_eq0, jI_L, jI_add, jI_sub, jI_mul, jI_neg, jL_add, jL_sub, jL_mul, jL_neg, jL_I, jI_div, jI_mod, jL_div, jL_mod] at c
    exact absurd (hout c) c2
  have rT : ∀ (h2 : mj_H) (b : Int32) (b1 b2 : Nat), I h2 → hI h2 1412 0 = jI k → (k = 0 → hJ h2 1441 0 = b.toInt64) → p ≤ b1 → 6 * p ≤ b2 → Run 1286 (lL (jI ((4 * t : Nat) : Int)) (some (.int (jI k))) (some (.int b))) [] h2 (b1, b2) := by
    intro h2 b b1 b2 hI2 hcode hout hb1 hb2
    obtain ⟨-, -, q12, -, -⟩ := hi h2 hI2
    refine hR 60 759 _ _ _ _ _ _ rfl ?_
    exact ⟨q12, jcall (ct_223 G q12) ⟨fun _ => rO h2 b _ _ hI2 hout hb1 hb2, fun z => absurd hcode z⟩⟩
  have r6 : ∀ (h2 : mj_H) (b : Int32) (x6 : Option Value) (b1 b2 : Nat), I h2 → hI h2 1412 0 = jI k → (k = 0 → hJ h2 1441 0 = b.toInt64) → p ≤ b1 → 6 * p ≤ b2 → Run 1284 (lL (jI ((4 * t : Nat) : Int)) (some (.int (jI k))) x6) [.int b] h2 (b1, b2) := by
    intro h2 b x6 b1 b2 hI2 hcode hout hb1 hb2
    refine hR 60 758 _ _ _ _ _ _ rfl ?_
    exact rT h2 b _ _ hI2 hcode hout hb1 hb2
  have rM : ∀ (x6 : Option Value) (b1 b2 : Nat), p ≤ b1 → 6 * p ≤ b2 → Run 1274 (lL (jI ((4 * t : Nat) : Int)) (some (.int (jI k))) x6) [] h1 (b1, b2) := by
    intro x6 b1 b2 hb1 hb2
    refine hR 60 751 _ _ _ _ _ _ rfl ?_
    refine ⟨Or.inr sc.1, vn 1 sc (by decide), k12', jcallP cm ?_⟩
    intro o2 h2 q2
    obtain ⟨b, e, hI2, hcode, hout⟩ := hm o2 h2 q2
    subst e
    exact r6 h2 b _ _ _ hI2 hcode hout hb1 hb2
  have r5 : ∀ (x5 x6 : Option Value) (b1 b2 : Nat), p ≤ b1 → 6 * p ≤ b2 → Run 1272 (lL (jI ((4 * t : Nat) : Int)) x5 x6) [.int (jI k)] h1 (b1, b2) := by
    intro x5 x6 b1 b2 hb1 hb2
    refine hR 60 750 _ _ _ _ _ _ rfl ?_
    exact rM _ _ _ hb1 hb2
  exact r5 _ _ _ _ (by omega) (by omega)
set_option maxRecDepth 20000 in
set_option maxHeartbeats 8000000 in
theorem law_c20 (G : mj_G) {I : mj_H → Prop} {Ln : Nat} {xs : Nat → Int32} (hi : lawI I Ln xs) (hLn : Ln ≤ 2048) {Run : mj_K} (hR : mj_closed G cx_law cd_law (fun o _ => o = .returned (some (.int (jI 1)))) Run) {p t bc bs : Nat} {h : mj_H} (hI' : I h) (hlt : 4 * t + 4 ≤ Ln) (hbc : p + 1 ≤ bc) (hbs : 6 * (p + 1) ≤ bs) (next : lawN I Run p t) (o9 : op1 G I Ln xs 182 282 [.int (xs (4 * t + 1))] h) : ∀ (x5 x6 : Option Value), Run 1317 (lL (jI ((4 * t : Nat) : Int)) x5 x6) [] h (bc, bs) := by
  obtain ⟨⟨k0, n0, s0⟩, k1, k12, k41, n41⟩ := hi h hI'
  have vn := fun {h3 : mj_H} (j : Nat) (sc : scr xs Ln h3) (hj : j < 4) => sc_vn (t := t) hLn hlt j sc hj
  have rd := fun {h3 : mj_H} (j : Nat) (sc : scr xs Ln h3) (hj : j < 4) => sc_rd (t := t) hLn hlt j sc hj
  intro x5 x6
  obtain ⟨Pw, cw, hw⟩ := o9
  have cw' := cw
  rw [← rd (h3 := h) 1 ⟨k0, n0, s0⟩ (by decide)] at cw'
  refine hR 60 777 _ _ _ _ _ _ rfl ?_
  refine ⟨Or.inr k0, vn 1 ⟨k0, n0, s0⟩ (by decide), 1, 6, Pw, cw', by omega, by omega, fun o h1 q => ?_⟩
  obtain ⟨k, hk, e, sc, k12', Pm, cm, hm⟩ := hw o h1 q
  subst e
  rw [← rd (h3 := h1) 1 sc (by decide)] at cm
  have rE : ∀ (h2 : mj_H) (x6 : Option Value) (b1 b2 : Nat), I h2 → p ≤ b1 → 6 * p ≤ b2 → Run 1370 (lL (jI ((4 * t : Nat) : Int)) (some (.int (jI k))) x6) [] h2 (b1, b2) := by
    intro h2 x6 b1 b2 hI2 hb1 hb2
    refine hR 60 811 _ _ _ _ _ _ rfl ?_
    exact next h2 _ _ _ _ hI2 hb1 hb2
  have rO : ∀ (h2 : mj_H) (b : Int32) (b1 b2 : Nat), I h2 → (k = 0 → hJ h2 1441 0 = b.toInt64) → p ≤ b1 → 6 * p ≤ b2 → Run 1353 (lL (jI ((4 * t : Nat) : Int)) (some (.int (jI k))) (some (.int b))) [] h2 (b1, b2) := by
    intro h2 b b1 b2 hI2 hout hb1 hb2
    obtain ⟨-, -, -, q41, q42⟩ := hi h2 hI2
    refine hR 60 800 _ _ _ _ _ _ rfl ?_
    refine ⟨fun c => ⟨q41, by rw [q42]; exact jI_in (by omega) (by omega) (by omega), fun _ => rE h2 _ _ _ hI2 hb1 hb2, fun c2 => ?_⟩, fun c => rE h2 _ _ _ hI2 hb1 hb2⟩
    simp (disch := omega) only [mj_lcm, jI_lt, jI_le, jI_eq, jL_lt, jL_le, jL_eq, jI_lt0, jI_0le, jI_0lt, jI_le0, jI_eq0, jL_eq0, jI_L, jI_add, jI_sub, jI_mul, jI_neg, jL_add, jL_sub, jL_mul, jL_neg, jL_I, jI_div, jI_mod, jL_div, jL_mod] at c
    exact absurd (hout c) c2
  have rT : ∀ (h2 : mj_H) (b : Int32) (b1 b2 : Nat), I h2 → hI h2 1412 0 = jI k → (k = 0 → hJ h2 1441 0 = b.toInt64) → p ≤ b1 → 6 * p ≤ b2 → Run 1342 (lL (jI ((4 * t : Nat) : Int)) (some (.int (jI k))) (some (.int b))) [] h2 (b1, b2) := by
    intro h2 b b1 b2 hI2 hcode hout hb1 hb2
    obtain ⟨-, -, q12, -, -⟩ := hi h2 hI2
    refine hR 60 794 _ _ _ _ _ _ rfl ?_
    exact ⟨q12, jcall (ct_223 G q12) ⟨fun _ => rO h2 b _ _ hI2 hout hb1 hb2, fun z => absurd hcode z⟩⟩
  have r6 : ∀ (h2 : mj_H) (b : Int32) (x6 : Option Value) (b1 b2 : Nat), I h2 → hI h2 1412 0 = jI k → (k = 0 → hJ h2 1441 0 = b.toInt64) → p ≤ b1 → 6 * p ≤ b2 → Run 1340 (lL (jI ((4 * t : Nat) : Int)) (some (.int (jI k))) x6) [.int b] h2 (b1, b2) := by
    intro h2 b x6 b1 b2 hI2 hcode hout hb1 hb2
    refine hR 60 793 _ _ _ _ _ _ rfl ?_
    exact rT h2 b _ _ hI2 hcode hout hb1 hb2
  have rM : ∀ (x6 : Option Value) (b1 b2 : Nat), p ≤ b1 → 6 * p ≤ b2 → Run 1330 (lL (jI ((4 * t : Nat) : Int)) (some (.int (jI k))) x6) [] h1 (b1, b2) := by
    intro x6 b1 b2 hb1 hb2
    refine hR 60 786 _ _ _ _ _ _ rfl ?_
    refine ⟨Or.inr sc.1, vn 1 sc (by decide), k12', jcallP cm ?_⟩
    intro o2 h2 q2
    obtain ⟨b, e, hI2, hcode, hout⟩ := hm o2 h2 q2
    subst e
    exact r6 h2 b _ _ _ hI2 hcode hout hb1 hb2
  have r5 : ∀ (x5 x6 : Option Value) (b1 b2 : Nat), p ≤ b1 → 6 * p ≤ b2 → Run 1328 (lL (jI ((4 * t : Nat) : Int)) x5 x6) [.int (jI k)] h1 (b1, b2) := by
    intro x5 x6 b1 b2 hb1 hb2
    refine hR 60 785 _ _ _ _ _ _ rfl ?_
    exact rM _ _ _ hb1 hb2
  exact r5 _ _ _ _ (by omega) (by omega)
set_option maxRecDepth 20000 in
set_option maxHeartbeats 8000000 in
theorem law_c21 (G : mj_G) {I : mj_H → Prop} {Ln : Nat} {xs : Nat → Int32} (hi : lawI I Ln xs) (hLn : Ln ≤ 2048) {Run : mj_K} (hR : mj_closed G cx_law cd_law (fun o _ => o = .returned (some (.int (jI 1)))) Run) {p t bc bs : Nat} {h : mj_H} (hI' : I h) (hlt : 4 * t + 4 ≤ Ln) (hbc : p + 1 ≤ bc) (hbs : 6 * (p + 1) ≤ bs) (next : lawN I Run p t) (o9 : op1 G I Ln xs 185 285 [.int (xs (4 * t + 1)), .int (xs (4 * t + 2))] h) : ∀ (x5 x6 : Option Value), Run 1373 (lL (jI ((4 * t : Nat) : Int)) x5 x6) [] h (bc, bs) := by
  obtain ⟨⟨k0, n0, s0⟩, k1, k12, k41, n41⟩ := hi h hI'
  have vn := fun {h3 : mj_H} (j : Nat) (sc : scr xs Ln h3) (hj : j < 4) => sc_vn (t := t) hLn hlt j sc hj
  have rd := fun {h3 : mj_H} (j : Nat) (sc : scr xs Ln h3) (hj : j < 4) => sc_rd (t := t) hLn hlt j sc hj
  intro x5 x6
  obtain ⟨Pw, cw, hw⟩ := o9
  have cw' := cw
  rw [← rd (h3 := h) 1 ⟨k0, n0, s0⟩ (by decide), ← rd (h3 := h) 2 ⟨k0, n0, s0⟩ (by decide)] at cw'
  refine hR 60 812 _ _ _ _ _ _ rfl ?_
  refine ⟨Or.inr k0, vn 1 ⟨k0, n0, s0⟩ (by decide), Or.inr k0, vn 2 ⟨k0, n0, s0⟩ (by decide), 1, 6, Pw, cw', by omega, by omega, fun o h1 q => ?_⟩
  obtain ⟨k, hk, e, sc, k12', Pm, cm, hm⟩ := hw o h1 q
  subst e
  rw [← rd (h3 := h1) 1 sc (by decide), ← rd (h3 := h1) 2 sc (by decide)] at cm
  have rE : ∀ (h2 : mj_H) (x6 : Option Value) (b1 b2 : Nat), I h2 → p ≤ b1 → 6 * p ≤ b2 → Run 1438 (lL (jI ((4 * t : Nat) : Int)) (some (.int (jI k))) x6) [] h2 (b1, b2) := by
    intro h2 x6 b1 b2 hI2 hb1 hb2
    refine hR 60 856 _ _ _ _ _ _ rfl ?_
    exact next h2 _ _ _ _ hI2 hb1 hb2
  have rO : ∀ (h2 : mj_H) (b : Int32) (b1 b2 : Nat), I h2 → (k = 0 → hJ h2 1441 0 = b.toInt64) → p ≤ b1 → 6 * p ≤ b2 → Run 1421 (lL (jI ((4 * t : Nat) : Int)) (some (.int (jI k))) (some (.int b))) [] h2 (b1, b2) := by
    intro h2 b b1 b2 hI2 hout hb1 hb2
    obtain ⟨-, -, -, q41, q42⟩ := hi h2 hI2
    refine hR 60 845 _ _ _ _ _ _ rfl ?_
    refine ⟨fun c => ⟨q41, by rw [q42]; exact jI_in (by omega) (by omega) (by omega), fun _ => rE h2 _ _ _ hI2 hb1 hb2, fun c2 => ?_⟩, fun c => rE h2 _ _ _ hI2 hb1 hb2⟩
    simp (disch := omega) only [mj_lcm, jI_lt, jI_le, jI_eq, jL_lt, jL_le, jL_eq, jI_lt0, jI_0le, jI_0lt, jI_le0, jI_eq0, jL_eq0, jI_L, jI_add, jI_sub, jI_mul, jI_neg, jL_add, jL_sub, jL_mul, jL_neg, jL_I, jI_div, jI_mod, jL_div, jL_mod] at c
    exact absurd (hout c) c2
  have rT : ∀ (h2 : mj_H) (b : Int32) (b1 b2 : Nat), I h2 → hI h2 1412 0 = jI k → (k = 0 → hJ h2 1441 0 = b.toInt64) → p ≤ b1 → 6 * p ≤ b2 → Run 1410 (lL (jI ((4 * t : Nat) : Int)) (some (.int (jI k))) (some (.int b))) [] h2 (b1, b2) := by
    intro h2 b b1 b2 hI2 hcode hout hb1 hb2
    obtain ⟨-, -, q12, -, -⟩ := hi h2 hI2
    refine hR 60 839 _ _ _ _ _ _ rfl ?_
    exact ⟨q12, jcall (ct_223 G q12) ⟨fun _ => rO h2 b _ _ hI2 hout hb1 hb2, fun z => absurd hcode z⟩⟩
  have r6 : ∀ (h2 : mj_H) (b : Int32) (x6 : Option Value) (b1 b2 : Nat), I h2 → hI h2 1412 0 = jI k → (k = 0 → hJ h2 1441 0 = b.toInt64) → p ≤ b1 → 6 * p ≤ b2 → Run 1408 (lL (jI ((4 * t : Nat) : Int)) (some (.int (jI k))) x6) [.int b] h2 (b1, b2) := by
    intro h2 b x6 b1 b2 hI2 hcode hout hb1 hb2
    refine hR 60 838 _ _ _ _ _ _ rfl ?_
    exact rT h2 b _ _ hI2 hcode hout hb1 hb2
  have rM : ∀ (x6 : Option Value) (b1 b2 : Nat), p ≤ b1 → 6 * p ≤ b2 → Run 1392 (lL (jI ((4 * t : Nat) : Int)) (some (.int (jI k))) x6) [] h1 (b1, b2) := by
    intro x6 b1 b2 hb1 hb2
    refine hR 60 826 _ _ _ _ _ _ rfl ?_
    refine ⟨Or.inr sc.1, vn 1 sc (by decide), Or.inr sc.1, vn 2 sc (by decide), k12', jcallP cm ?_⟩
    intro o2 h2 q2
    obtain ⟨b, e, hI2, hcode, hout⟩ := hm o2 h2 q2
    subst e
    exact r6 h2 b _ _ _ hI2 hcode hout hb1 hb2
  have r5 : ∀ (x5 x6 : Option Value) (b1 b2 : Nat), p ≤ b1 → 6 * p ≤ b2 → Run 1390 (lL (jI ((4 * t : Nat) : Int)) x5 x6) [.int (jI k)] h1 (b1, b2) := by
    intro x5 x6 b1 b2 hb1 hb2
    refine hR 60 825 _ _ _ _ _ _ rfl ?_
    exact rM _ _ _ hb1 hb2
  exact r5 _ _ _ _ (by omega) (by omega)
set_option maxRecDepth 20000 in
set_option maxHeartbeats 8000000 in
theorem law_c22 (G : mj_G) {I : mj_H → Prop} {Ln : Nat} {xs : Nat → Int32} (hi : lawI I Ln xs) (hLn : Ln ≤ 2048) {Run : mj_K} (hR : mj_closed G cx_law cd_law (fun o _ => o = .returned (some (.int (jI 1)))) Run) {p t bc bs : Nat} {h : mj_H} (hI' : I h) (hlt : 4 * t + 4 ≤ Ln) (hbc : p + 1 ≤ bc) (hbs : 6 * (p + 1) ≤ bs) (next : lawN I Run p t) (o9 : op1 G I Ln xs 187 286 [.int (xs (4 * t + 1)), .int (xs (4 * t + 2))] h) : ∀ (x5 x6 : Option Value), Run 1441 (lL (jI ((4 * t : Nat) : Int)) x5 x6) [] h (bc, bs) := by
  obtain ⟨⟨k0, n0, s0⟩, k1, k12, k41, n41⟩ := hi h hI'
  have vn := fun {h3 : mj_H} (j : Nat) (sc : scr xs Ln h3) (hj : j < 4) => sc_vn (t := t) hLn hlt j sc hj
  have rd := fun {h3 : mj_H} (j : Nat) (sc : scr xs Ln h3) (hj : j < 4) => sc_rd (t := t) hLn hlt j sc hj
  intro x5 x6
  obtain ⟨Pw, cw, hw⟩ := o9
  have cw' := cw
  rw [← rd (h3 := h) 1 ⟨k0, n0, s0⟩ (by decide), ← rd (h3 := h) 2 ⟨k0, n0, s0⟩ (by decide)] at cw'
  refine hR 60 857 _ _ _ _ _ _ rfl ?_
  refine ⟨Or.inr k0, vn 1 ⟨k0, n0, s0⟩ (by decide), Or.inr k0, vn 2 ⟨k0, n0, s0⟩ (by decide), 1, 6, Pw, cw', by omega, by omega, fun o h1 q => ?_⟩
  obtain ⟨k, hk, e, sc, k12', Pm, cm, hm⟩ := hw o h1 q
  subst e
  rw [← rd (h3 := h1) 1 sc (by decide), ← rd (h3 := h1) 2 sc (by decide)] at cm
  have rE : ∀ (h2 : mj_H) (x6 : Option Value) (b1 b2 : Nat), I h2 → p ≤ b1 → 6 * p ≤ b2 → Run 1506 (lL (jI ((4 * t : Nat) : Int)) (some (.int (jI k))) x6) [] h2 (b1, b2) := by
    intro h2 x6 b1 b2 hI2 hb1 hb2
    refine hR 60 901 _ _ _ _ _ _ rfl ?_
    exact next h2 _ _ _ _ hI2 hb1 hb2
  have rO : ∀ (h2 : mj_H) (b : Int32) (b1 b2 : Nat), I h2 → (k = 0 → hJ h2 1441 0 = b.toInt64) → p ≤ b1 → 6 * p ≤ b2 → Run 1489 (lL (jI ((4 * t : Nat) : Int)) (some (.int (jI k))) (some (.int b))) [] h2 (b1, b2) := by
    intro h2 b b1 b2 hI2 hout hb1 hb2
    obtain ⟨-, -, -, q41, q42⟩ := hi h2 hI2
    refine hR 60 890 _ _ _ _ _ _ rfl ?_
    refine ⟨fun c => ⟨q41, by rw [q42]; exact jI_in (by omega) (by omega) (by omega), fun _ => rE h2 _ _ _ hI2 hb1 hb2, fun c2 => ?_⟩, fun c => rE h2 _ _ _ hI2 hb1 hb2⟩
    simp (disch := omega) only [mj_lcm, jI_lt, jI_le, jI_eq, jL_lt, jL_le, jL_eq, jI_lt0, jI_0le, jI_0lt, jI_le0, jI_eq0, jL_eq0, jI_L, jI_add, jI_sub, jI_mul, jI_neg, jL_add, jL_sub, jL_mul, jL_neg, jL_I, jI_div, jI_mod, jL_div, jL_mod] at c
    exact absurd (hout c) c2
  have rT : ∀ (h2 : mj_H) (b : Int32) (b1 b2 : Nat), I h2 → hI h2 1412 0 = jI k → (k = 0 → hJ h2 1441 0 = b.toInt64) → p ≤ b1 → 6 * p ≤ b2 → Run 1478 (lL (jI ((4 * t : Nat) : Int)) (some (.int (jI k))) (some (.int b))) [] h2 (b1, b2) := by
    intro h2 b b1 b2 hI2 hcode hout hb1 hb2
    obtain ⟨-, -, q12, -, -⟩ := hi h2 hI2
    refine hR 60 884 _ _ _ _ _ _ rfl ?_
    exact ⟨q12, jcall (ct_223 G q12) ⟨fun _ => rO h2 b _ _ hI2 hout hb1 hb2, fun z => absurd hcode z⟩⟩
  have r6 : ∀ (h2 : mj_H) (b : Int32) (x6 : Option Value) (b1 b2 : Nat), I h2 → hI h2 1412 0 = jI k → (k = 0 → hJ h2 1441 0 = b.toInt64) → p ≤ b1 → 6 * p ≤ b2 → Run 1476 (lL (jI ((4 * t : Nat) : Int)) (some (.int (jI k))) x6) [.int b] h2 (b1, b2) := by
    intro h2 b x6 b1 b2 hI2 hcode hout hb1 hb2
    refine hR 60 883 _ _ _ _ _ _ rfl ?_
    exact rT h2 b _ _ hI2 hcode hout hb1 hb2
  have rM : ∀ (x6 : Option Value) (b1 b2 : Nat), p ≤ b1 → 6 * p ≤ b2 → Run 1460 (lL (jI ((4 * t : Nat) : Int)) (some (.int (jI k))) x6) [] h1 (b1, b2) := by
    intro x6 b1 b2 hb1 hb2
    refine hR 60 871 _ _ _ _ _ _ rfl ?_
    refine ⟨Or.inr sc.1, vn 1 sc (by decide), Or.inr sc.1, vn 2 sc (by decide), k12', jcallP cm ?_⟩
    intro o2 h2 q2
    obtain ⟨b, e, hI2, hcode, hout⟩ := hm o2 h2 q2
    subst e
    exact r6 h2 b _ _ _ hI2 hcode hout hb1 hb2
  have r5 : ∀ (x5 x6 : Option Value) (b1 b2 : Nat), p ≤ b1 → 6 * p ≤ b2 → Run 1458 (lL (jI ((4 * t : Nat) : Int)) x5 x6) [.int (jI k)] h1 (b1, b2) := by
    intro x5 x6 b1 b2 hb1 hb2
    refine hR 60 870 _ _ _ _ _ _ rfl ?_
    exact rM _ _ _ hb1 hb2
  exact r5 _ _ _ _ (by omega) (by omega)
set_option maxRecDepth 20000 in
set_option maxHeartbeats 8000000 in
theorem law_loop (G : mj_G) {I : mj_H → Prop} {Ln : Nat} {xs : Nat → Int32} (hi : lawI I Ln xs) (hLn : Ln ≤ 2048) (hops : lawOps G I Ln xs) {Run : mj_K} (hR : mj_closed G cx_law cd_law (fun o _ => o = .returned (some (.int (jI 1)))) Run) : ∀ (p t : Nat) (iI : Int32) (x5 x6 : Option Value) (h : mj_H) (bc bs : Nat), 4 * t + 4 * p + 3 ≥ Ln → 4 * t ≤ Ln → p ≤ bc → 6 * p ≤ bs → I h → iI = jI (4 * t : Nat) → Run 23 (lL iI x5 x6) [] h (bc, bs) := by
  intro p
  induction p with
  | zero =>
    rintro t iI x5 x6 h bc bs h1 h2 hbc hbs hI' rfl
    obtain ⟨⟨k0, n0, s0⟩, -⟩ := hi h hI'
    refine hR 60 13 _ _ _ _ _ _ rfl ?_
    refine ⟨⟨by rw [k0]; decide, by rw [k0]; decide⟩, fun c => ⟨Or.inr rfl, rfl⟩, fun c => ?_⟩
    rw [n0, jI_len] at c
    have c' : ¬ jI (Ln : Int) - jI 4 < jI ((4 * t : Nat) : Int) := c
    rw [jI_sub, jI_lt (by omega) (by omega) (by omega) (by omega)] at c'
    omega
  | succ p ih =>
    rintro t iI x5 x6 h bc bs h1 h2 hbc hbs hI' rfl
    obtain ⟨⟨k0, n0, s0⟩, k1, k12, k41, n41⟩ := hi h hI'
    have r32 : 4 * t + 4 ≤ Ln → ∀ (x5 x6 : Option Value), Run 32 (lL (jI ((4 * t : Nat) : Int)) x5 x6) [] h (bc, bs) := by
      intro hlt x5 x6
      obtain ⟨o1, o0, o2, o3, o4, o5, o6, o7, o8, o9, o10, o11, o12, o13, o14, o15, o16, o17, o18, o19, o20, o21, o22⟩ := hops h hI' (xs (4 * t + 1)) (xs (4 * t + 2)) (xs (4 * t + 3))
      have next : lawN I Run p t := by
        intro h3 b1 b2 x5 x6 hI3 hb1 hb2
        refine hR 60 902 _ _ _ _ _ _ rfl ?_
        exact ih (t + 1) _ _ _ h3 _ _ (by omega) (by omega) hb1 hb2 hI3 (by rw [jI_add]; rfl)
      refine hR 60 19 _ _ _ _ _ _ rfl ?_
      refine ⟨Or.inr k0, ?_, fun c => next h _ _ _ _ hI' (by omega) (by omega), fun j hj e => ?_⟩
      · rw [n0]
        exact jI_in (by omega) (by omega) (by omega)
      · have hj2 : j ≤ 22 := hj
        clear e hj
        match j, hj2 with
        | 0, _ => exact law_c0 G hi hLn hR hI' hlt hbc hbs next o0 _ _
        | 1, _ => exact law_c1 G hi hLn hR hI' hlt hbc hbs next o1 _ _
        | 2, _ => exact law_c2 G hi hLn hR hI' hlt hbc hbs next o2 _ _
        | 3, _ => exact law_c3 G hi hLn hR hI' hlt hbc hbs next o3 _ _
        | 4, _ => exact law_c4 G hi hLn hR hI' hlt hbc hbs next o4 _ _
        | 5, _ => exact law_c5 G hi hLn hR hI' hlt hbc hbs next o5 _ _
        | 6, _ => exact law_c6 G hi hLn hR hI' hlt hbc hbs next o6 _ _
        | 7, _ => exact law_c7 G hi hLn hR hI' hlt hbc hbs next o7 _ _
        | 8, _ => exact law_c8 G hi hLn hR hI' hlt hbc hbs next o8 _ _
        | 9, _ => exact law_c9 G hi hLn hR hI' hlt hbc hbs next o9 _ _
        | 10, _ => exact law_c10 G hi hLn hR hI' hlt hbc hbs next o10 _ _
        | 11, _ => exact law_c11 G hi hLn hR hI' hlt hbc hbs next o11 _ _
        | 12, _ => exact law_c12 G hi hLn hR hI' hlt hbc hbs next o12 _ _
        | 13, _ => exact law_c13 G hi hLn hR hI' hlt hbc hbs next o13 _ _
        | 14, _ => exact law_c14 G hi hLn hR hI' hlt hbc hbs next o14 _ _
        | 15, _ => exact law_c15 G hi hLn hR hI' hlt hbc hbs next o15 _ _
        | 16, _ => exact law_c16 G hi hLn hR hI' hlt hbc hbs next o16 _ _
        | 17, _ => exact law_c17 G hi hLn hR hI' hlt hbc hbs next o17 _ _
        | 18, _ => exact law_c18 G hi hLn hR hI' hlt hbc hbs next o18 _ _
        | 19, _ => exact law_c19 G hi hLn hR hI' hlt hbc hbs next o19 _ _
        | 20, _ => exact law_c20 G hi hLn hR hI' hlt hbc hbs next o20 _ _
        | 21, _ => exact law_c21 G hi hLn hR hI' hlt hbc hbs next o21 _ _
        | 22, _ => exact law_c22 G hi hLn hR hI' hlt hbc hbs next o22 _ _
        | j + 23, h9 => exact absurd h9 (by omega)
    refine hR 60 13 _ _ _ _ _ _ rfl ?_
    refine ⟨⟨by rw [k0]; decide, by rw [k0]; decide⟩, fun c => ⟨Or.inr rfl, rfl⟩, fun c => ?_⟩
    rw [n0, jI_len] at c
    have c' : ¬ jI (Ln : Int) - jI 4 < jI ((4 * t : Nat) : Int) := c
    rw [jI_sub, jI_lt (by omega) (by omega) (by omega) (by omega)] at c'
    exact r32 (by omega) _ _
