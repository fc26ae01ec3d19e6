/-! the law's wrappers (printed by gen/wrap.py) -/
/-- an int is returned, or an exception of a kind that is caught is thrown -/
def wrQ (P : Nat → Prop) (o : Outcome) (h : mj_H) : Prop := (∃ v, o = .returned (some (.int v)) ∧ hK h 1441 = 2 ∧ hN h 1441 = 1) ∨ ∃ x, o = .threw x ∧ P (hK h x)
/-- what a wrapper answers -/
def wrP (f : Nat → Int) (Q : mj_Q) : mj_Q := fun o h' => (∃ v h1, Q (.returned (some (.int v))) h1 ∧ o = .returned (some (.int (jI 0))) ∧ h' = sJ h1 1441 0 v.toInt64) ∨ ∃ x, Q (.threw x) h' ∧ o = .returned (some (.int (jI (f (hK h' x)))))
def code1 (_ : Nat) : Int := 1
def code80 (k : Nat) : Int := if k = 80 then 1 else 2
def code81 (k : Nat) : Int := if k = 81 then 1 else 2
/-- FormHouseLaw.take(LFormHouse;I[J)I; cuts at [] -/
def cd_97 : List mj_E := [(0, false, .aload_n 2, 1, 0, 0, 0, 0, 0),
  (1, false, .iconst 0, 1, 0, 0, 0, jI 0, 0),
  (2, false, .aload_n 0, 1, 0, 0, 0, 0, 0),
  (3, false, .iload_n 1, 1, 0, 0, 0, 0, 0),
  (4, false, .invokevirtual 7, 3, 98, 1, 0, 0, 0),
  (7, false, .i2l, 1, 0, 0, 0, 0, 0),
  (8, false, .lastore, 1, 0, 0, 0, 0, 0),
  (9, false, .goto 6, 3, 11, 0, 0, 0, 0),
  (12, false, .astore_n 3, 1, 0, 0, 0, 0, 0),
  (13, false, .iconst 1, 1, 0, 0, 0, jI 1, 0),
  (14, false, .ireturn, 1, 0, 0, 0, 0, 0),
  (15, false, .iconst 0, 1, 0, 0, 0, jI 0, 0),
  (16, false, .ireturn, 1, 0, 0, 0, 0, 0)]
def cx_97 : mj_X := (1, [(0, 9, 8, 20)], [])
theorem hb_97 : mj_hB (mj_mt 97) cd_97 cx_97.2.1 (mM_h (mj_mt 97)) [5041] = true := by decide +kernel
theorem tb_97 : mj_tab (mj_mt 97) cx_97 cd_97 mj_mh [(0, 0, 0), (0, 0, 0), (0, 0, 0), (0, 0, 0), (5042, 0, 0), (0, 0, 0), (0, 0, 0), (0, 0, 0), (0, 0, 0), (0, 0, 0), (0, 0, 0), (0, 0, 0), (0, 0, 0)] = true := mj_tab_f (by decide +kernel)
theorem ct_97 (G : mj_G) {h : mj_H} (k1 : hK h 1 = 10) {p0 : Int32} {Q : mj_Q} (c : mj_Ct G (mj_mt 98) 1 6 [.ref 1, .int p0] h Q) (hQ : ∀ o1 h1, Q o1 h1 → wrQ (fun k => k = 80) o1 h1) : mj_Ct G (mj_mt 97) 1 6 [.ref 1, .int p0, .ref 1441] h (wrP code1 Q) := by
  refine mj_CtH mj_ok tb_97 hb_97 rfl (Nat.le_of_ble_eq_true rfl) (fun Run hR => ?_)
  refine hR 60 0 _ _ _ _ _ _ rfl ?_
  refine ⟨k1, 1, 6, Q, c, Nat.le_refl _, Nat.le_refl _, fun o1 h1 q => ?_⟩
  rcases hQ o1 h1 q with ⟨v, rfl, a1, a2⟩ | ⟨x, rfl, hx⟩
  · refine ⟨a1, ?_, Or.inl ⟨v, h1, q, rfl, rfl⟩⟩
    rw [a2]
    exact jI_in (by omega) (by omega) (by omega)
  · exact ⟨Or.inr (Or.inl hx), fun _ => Or.inr ⟨x, q, rfl⟩, fun e => absurd hx e⟩
/-- FormHouseLaw.name(LFormHouse;II[J)I; cuts at [] -/
def cd_102 : List mj_E := [(0, false, .aload_n 3, 1, 0, 0, 0, 0, 0),
  (1, false, .iconst 0, 1, 0, 0, 0, jI 0, 0),
  (2, false, .aload_n 0, 1, 0, 0, 0, 0, 0),
  (3, false, .iload_n 1, 1, 0, 0, 0, 0, 0),
  (4, false, .iload_n 2, 1, 0, 0, 0, 0, 0),
  (5, false, .invokevirtual 15, 3, 103, 2, 0, 0, 0),
  (8, false, .i2l, 1, 0, 0, 0, 0, 0),
  (9, false, .lastore, 1, 0, 0, 0, 0, 0),
  (10, false, .goto 7, 3, 12, 0, 0, 0, 0),
  (13, false, .astore 4, 2, 0, 0, 0, 0, 0),
  (15, false, .iconst 1, 1, 0, 0, 0, jI 1, 0),
  (16, false, .ireturn, 1, 0, 0, 0, 0, 0),
  (17, false, .iconst 0, 1, 0, 0, 0, jI 0, 0),
  (18, false, .ireturn, 1, 0, 0, 0, 0, 0)]
def cx_102 : mj_X := (1, [(0, 10, 9, 21)], [])
theorem hb_102 : mj_hB (mj_mt 102) cd_102 cx_102.2.1 (mM_h (mj_mt 102)) [5072] = true := by decide +kernel
theorem tb_102 : mj_tab (mj_mt 102) cx_102 cd_102 mj_mh [(0, 0, 0), (0, 0, 0), (0, 0, 0), (0, 0, 0), (0, 0, 0), (5073, 0, 0), (0, 0, 0), (0, 0, 0), (0, 0, 0), (0, 0, 0), (0, 0, 0), (0, 0, 0), (0, 0, 0), (0, 0, 0)] = true := mj_tab_f (by decide +kernel)
theorem ct_102 (G : mj_G) {h : mj_H} (k1 : hK h 1 = 10) {p0 p1 : Int32} {Q : mj_Q} (c : mj_Ct G (mj_mt 103) 1 6 [.ref 1, .int p0, .int p1] h Q) (hQ : ∀ o1 h1, Q o1 h1 → wrQ (fun k => k = 81) o1 h1) : mj_Ct G (mj_mt 102) 1 6 [.ref 1, .int p0, .int p1, .ref 1441] h (wrP code1 Q) := by
  refine mj_CtH mj_ok tb_102 hb_102 rfl (Nat.le_of_ble_eq_true rfl) (fun Run hR => ?_)
  refine hR 60 0 _ _ _ _ _ _ rfl ?_
  refine ⟨k1, 1, 6, Q, c, Nat.le_refl _, Nat.le_refl _, fun o1 h1 q => ?_⟩
  rcases hQ o1 h1 q with ⟨v, rfl, a1, a2⟩ | ⟨x, rfl, hx⟩
  · refine ⟨a1, ?_, Or.inl ⟨v, h1, q, rfl, rfl⟩⟩
    rw [a2]
    exact jI_in (by omega) (by omega) (by omega)
  · exact ⟨Or.inr (Or.inr hx), fun _ => Or.inr ⟨x, q, rfl⟩, fun e => absurd hx e⟩
/-- FormHouseLaw.product(LFormHouse;II[J)I; cuts at [] -/
def cd_108 : List mj_E := [(0, false, .aload_n 3, 1, 0, 0, 0, 0, 0),
  (1, false, .iconst 0, 1, 0, 0, 0, jI 0, 0),
  (2, false, .aload_n 0, 1, 0, 0, 0, 0, 0),
  (3, false, .iload_n 1, 1, 0, 0, 0, 0, 0),
  (4, false, .iload_n 2, 1, 0, 0, 0, 0, 0),
  (5, false, .invokevirtual 21, 3, 109, 2, 0, 0, 0),
  (8, false, .i2l, 1, 0, 0, 0, 0, 0),
  (9, false, .lastore, 1, 0, 0, 0, 0, 0),
  (10, false, .goto 7, 3, 12, 0, 0, 0, 0),
  (13, false, .astore 4, 2, 0, 0, 0, 0, 0),
  (15, false, .iconst 1, 1, 0, 0, 0, jI 1, 0),
  (16, false, .ireturn, 1, 0, 0, 0, 0, 0),
  (17, false, .iconst 0, 1, 0, 0, 0, jI 0, 0),
  (18, false, .ireturn, 1, 0, 0, 0, 0, 0)]
def cx_108 : mj_X := (1, [(0, 10, 9, 21)], [])
theorem hb_108 : mj_hB (mj_mt 108) cd_108 cx_108.2.1 (mM_h (mj_mt 108)) [5072] = true := by decide +kernel
theorem tb_108 : mj_tab (mj_mt 108) cx_108 cd_108 mj_mh [(0, 0, 0), (0, 0, 0), (0, 0, 0), (0, 0, 0), (0, 0, 0), (5106, 0, 0), (0, 0, 0), (0, 0, 0), (0, 0, 0), (0, 0, 0), (0, 0, 0), (0, 0, 0), (0, 0, 0), (0, 0, 0)] = true := mj_tab_f (by decide +kernel)
theorem ct_108 (G : mj_G) {h : mj_H} (k1 : hK h 1 = 10) {p0 p1 : Int32} {Q : mj_Q} (c : mj_Ct G (mj_mt 109) 1 6 [.ref 1, .int p0, .int p1] h Q) (hQ : ∀ o1 h1, Q o1 h1 → wrQ (fun k => k = 81) o1 h1) : mj_Ct G (mj_mt 108) 1 6 [.ref 1, .int p0, .int p1, .ref 1441] h (wrP code1 Q) := by
  refine mj_CtH mj_ok tb_108 hb_108 rfl (Nat.le_of_ble_eq_true rfl) (fun Run hR => ?_)
  refine hR 60 0 _ _ _ _ _ _ rfl ?_
  refine ⟨k1, 1, 6, Q, c, Nat.le_refl _, Nat.le_refl _, fun o1 h1 q => ?_⟩
  rcases hQ o1 h1 q with ⟨v, rfl, a1, a2⟩ | ⟨x, rfl, hx⟩
  · refine ⟨a1, ?_, Or.inl ⟨v, h1, q, rfl, rfl⟩⟩
    rw [a2]
    exact jI_in (by omega) (by omega) (by omega)
  · exact ⟨Or.inr (Or.inr hx), fun _ => Or.inr ⟨x, q, rfl⟩, fun e => absurd hx e⟩
/-- FormHouseLaw.inverse(LFormHouse;I[J)I; cuts at [] -/
def cd_110 : List mj_E := [(0, false, .aload_n 2, 1, 0, 0, 0, 0, 0),
  (1, false, .iconst 0, 1, 0, 0, 0, jI 0, 0),
  (2, false, .aload_n 0, 1, 0, 0, 0, 0, 0),
  (3, false, .iload_n 1, 1, 0, 0, 0, 0, 0),
  (4, false, .invokevirtual 24, 3, 111, 1, 0, 0, 0),
  (7, false, .i2l, 1, 0, 0, 0, 0, 0),
  (8, false, .lastore, 1, 0, 0, 0, 0, 0),
  (9, false, .goto 6, 3, 11, 0, 0, 0, 0),
  (12, false, .astore_n 3, 1, 0, 0, 0, 0, 0),
  (13, false, .iconst 1, 1, 0, 0, 0, jI 1, 0),
  (14, false, .ireturn, 1, 0, 0, 0, 0, 0),
  (15, false, .iconst 0, 1, 0, 0, 0, jI 0, 0),
  (16, false, .ireturn, 1, 0, 0, 0, 0, 0)]
def cx_110 : mj_X := (1, [(0, 9, 8, 21)], [])
theorem hb_110 : mj_hB (mj_mt 110) cd_110 cx_110.2.1 (mM_h (mj_mt 110)) [5072] = true := by decide +kernel
theorem tb_110 : mj_tab (mj_mt 110) cx_110 cd_110 mj_mh [(0, 0, 0), (0, 0, 0), (0, 0, 0), (0, 0, 0), (5114, 0, 0), (0, 0, 0), (0, 0, 0), (0, 0, 0), (0, 0, 0), (0, 0, 0), (0, 0, 0), (0, 0, 0), (0, 0, 0)] = true := mj_tab_f (by decide +kernel)
theorem ct_110 (G : mj_G) {h : mj_H} (k1 : hK h 1 = 10) {p0 : Int32} {Q : mj_Q} (c : mj_Ct G (mj_mt 111) 1 6 [.ref 1, .int p0] h Q) (hQ : ∀ o1 h1, Q o1 h1 → wrQ (fun k => k = 81) o1 h1) : mj_Ct G (mj_mt 110) 1 6 [.ref 1, .int p0, .ref 1441] h (wrP code1 Q) := by
  refine mj_CtH mj_ok tb_110 hb_110 rfl (Nat.le_of_ble_eq_true rfl) (fun Run hR => ?_)
  refine hR 60 0 _ _ _ _ _ _ rfl ?_
  refine ⟨k1, 1, 6, Q, c, Nat.le_refl _, Nat.le_refl _, fun o1 h1 q => ?_⟩
  rcases hQ o1 h1 q with ⟨v, rfl, a1, a2⟩ | ⟨x, rfl, hx⟩
  · refine ⟨a1, ?_, Or.inl ⟨v, h1, q, rfl, rfl⟩⟩
    rw [a2]
    exact jI_in (by omega) (by omega) (by omega)
  · exact ⟨Or.inr (Or.inr hx), fun _ => Or.inr ⟨x, q, rfl⟩, fun e => absurd hx e⟩
/-- FormHouseLaw.power(LFormHouse;II[J)I; cuts at [] -/
def cd_112 : List mj_E := [(0, false, .aload_n 3, 1, 0, 0, 0, 0, 0),
  (1, false, .iconst 0, 1, 0, 0, 0, jI 0, 0),
  (2, false, .aload_n 0, 1, 0, 0, 0, 0, 0),
  (3, false, .iload_n 1, 1, 0, 0, 0, 0, 0),
  (4, false, .iload_n 2, 1, 0, 0, 0, 0, 0),
  (5, false, .invokevirtual 27, 3, 113, 2, 0, 0, 0),
  (8, false, .i2l, 1, 0, 0, 0, 0, 0),
  (9, false, .lastore, 1, 0, 0, 0, 0, 0),
  (10, false, .goto 7, 3, 12, 0, 0, 0, 0),
  (13, false, .astore 4, 2, 0, 0, 0, 0, 0),
  (15, false, .iconst 1, 1, 0, 0, 0, jI 1, 0),
  (16, false, .ireturn, 1, 0, 0, 0, 0, 0),
  (17, false, .iconst 0, 1, 0, 0, 0, jI 0, 0),
  (18, false, .ireturn, 1, 0, 0, 0, 0, 0)]
def cx_112 : mj_X := (1, [(0, 10, 9, 21)], [])
theorem hb_112 : mj_hB (mj_mt 112) cd_112 cx_112.2.1 (mM_h (mj_mt 112)) [5072] = true := by decide +kernel
theorem tb_112 : mj_tab (mj_mt 112) cx_112 cd_112 mj_mh [(0, 0, 0), (0, 0, 0), (0, 0, 0), (0, 0, 0), (0, 0, 0), (5122, 0, 0), (0, 0, 0), (0, 0, 0), (0, 0, 0), (0, 0, 0), (0, 0, 0), (0, 0, 0), (0, 0, 0), (0, 0, 0)] = true := mj_tab_f (by decide +kernel)
theorem ct_112 (G : mj_G) {h : mj_H} (k1 : hK h 1 = 10) {p0 p1 : Int32} {Q : mj_Q} (c : mj_Ct G (mj_mt 113) 1 6 [.ref 1, .int p0, .int p1] h Q) (hQ : ∀ o1 h1, Q o1 h1 → wrQ (fun k => k = 81) o1 h1) : mj_Ct G (mj_mt 112) 1 6 [.ref 1, .int p0, .int p1, .ref 1441] h (wrP code1 Q) := by
  refine mj_CtH mj_ok tb_112 hb_112 rfl (Nat.le_of_ble_eq_true rfl) (fun Run hR => ?_)
  refine hR 60 0 _ _ _ _ _ _ rfl ?_
  refine ⟨k1, 1, 6, Q, c, Nat.le_refl _, Nat.le_refl _, fun o1 h1 q => ?_⟩
  rcases hQ o1 h1 q with ⟨v, rfl, a1, a2⟩ | ⟨x, rfl, hx⟩
  · refine ⟨a1, ?_, Or.inl ⟨v, h1, q, rfl, rfl⟩⟩
    rw [a2]
    exact jI_in (by omega) (by omega) (by omega)
  · exact ⟨Or.inr (Or.inr hx), fun _ => Or.inr ⟨x, q, rfl⟩, fun e => absurd hx e⟩
/-- FormHouseLaw.order(LFormHouse;I[J)I; cuts at [] -/
def cd_114 : List mj_E := [(0, false, .aload_n 2, 1, 0, 0, 0, 0, 0),
  (1, false, .iconst 0, 1, 0, 0, 0, jI 0, 0),
  (2, false, .aload_n 0, 1, 0, 0, 0, 0, 0),
  (3, false, .iload_n 1, 1, 0, 0, 0, 0, 0),
  (4, false, .invokevirtual 30, 3, 115, 1, 0, 0, 0),
  (7, false, .i2l, 1, 0, 0, 0, 0, 0),
  (8, false, .lastore, 1, 0, 0, 0, 0, 0),
  (9, false, .goto 6, 3, 11, 0, 0, 0, 0),
  (12, false, .astore_n 3, 1, 0, 0, 0, 0, 0),
  (13, false, .iconst 1, 1, 0, 0, 0, jI 1, 0),
  (14, false, .ireturn, 1, 0, 0, 0, 0, 0),
  (15, false, .iconst 0, 1, 0, 0, 0, jI 0, 0),
  (16, false, .ireturn, 1, 0, 0, 0, 0, 0)]
def cx_114 : mj_X := (1, [(0, 9, 8, 21)], [])
theorem hb_114 : mj_hB (mj_mt 114) cd_114 cx_114.2.1 (mM_h (mj_mt 114)) [5072] = true := by decide +kernel
theorem tb_114 : mj_tab (mj_mt 114) cx_114 cd_114 mj_mh [(0, 0, 0), (0, 0, 0), (0, 0, 0), (0, 0, 0), (5130, 0, 0), (0, 0, 0), (0, 0, 0), (0, 0, 0), (0, 0, 0), (0, 0, 0), (0, 0, 0), (0, 0, 0), (0, 0, 0)] = true := mj_tab_f (by decide +kernel)
theorem ct_114 (G : mj_G) {h : mj_H} (k1 : hK h 1 = 10) {p0 : Int32} {Q : mj_Q} (c : mj_Ct G (mj_mt 115) 1 6 [.ref 1, .int p0] h Q) (hQ : ∀ o1 h1, Q o1 h1 → wrQ (fun k => k = 81) o1 h1) : mj_Ct G (mj_mt 114) 1 6 [.ref 1, .int p0, .ref 1441] h (wrP code1 Q) := by
  refine mj_CtH mj_ok tb_114 hb_114 rfl (Nat.le_of_ble_eq_true rfl) (fun Run hR => ?_)
  refine hR 60 0 _ _ _ _ _ _ rfl ?_
  refine ⟨k1, 1, 6, Q, c, Nat.le_refl _, Nat.le_refl _, fun o1 h1 q => ?_⟩
  rcases hQ o1 h1 q with ⟨v, rfl, a1, a2⟩ | ⟨x, rfl, hx⟩
  · refine ⟨a1, ?_, Or.inl ⟨v, h1, q, rfl, rfl⟩⟩
    rw [a2]
    exact jI_in (by omega) (by omega) (by omega)
  · exact ⟨Or.inr (Or.inr hx), fun _ => Or.inr ⟨x, q, rfl⟩, fun e => absurd hx e⟩
/-- FormHouseLaw.generator(LFormHouse;I[J)I; cuts at [] -/
def cd_116 : List mj_E := [(0, false, .aload_n 2, 1, 0, 0, 0, 0, 0),
  (1, false, .iconst 0, 1, 0, 0, 0, jI 0, 0),
  (2, false, .aload_n 0, 1, 0, 0, 0, 0, 0),
  (3, false, .iload_n 1, 1, 0, 0, 0, 0, 0),
  (4, false, .invokevirtual 33, 3, 117, 1, 0, 0, 0),
  (7, false, .i2l, 1, 0, 0, 0, 0, 0),
  (8, false, .lastore, 1, 0, 0, 0, 0, 0),
  (9, false, .goto 6, 3, 11, 0, 0, 0, 0),
  (12, false, .astore_n 3, 1, 0, 0, 0, 0, 0),
  (13, false, .iconst 1, 1, 0, 0, 0, jI 1, 0),
  (14, false, .ireturn, 1, 0, 0, 0, 0, 0),
  (15, false, .iconst 0, 1, 0, 0, 0, jI 0, 0),
  (16, false, .ireturn, 1, 0, 0, 0, 0, 0)]
def cx_116 : mj_X := (1, [(0, 9, 8, 21)], [])
theorem hb_116 : mj_hB (mj_mt 116) cd_116 cx_116.2.1 (mM_h (mj_mt 116)) [5072] = true := by decide +kernel
theorem tb_116 : mj_tab (mj_mt 116) cx_116 cd_116 mj_mh [(0, 0, 0), (0, 0, 0), (0, 0, 0), (0, 0, 0), (5137, 0, 0), (0, 0, 0), (0, 0, 0), (0, 0, 0), (0, 0, 0), (0, 0, 0), (0, 0, 0), (0, 0, 0), (0, 0, 0)] = true := mj_tab_f (by decide +kernel)
theorem ct_116 (G : mj_G) {h : mj_H} (k1 : hK h 1 = 10) {p0 : Int32} {Q : mj_Q} (c : mj_Ct G (mj_mt 117) 1 6 [.ref 1, .int p0] h Q) (hQ : ∀ o1 h1, Q o1 h1 → wrQ (fun k => k = 81) o1 h1) : mj_Ct G (mj_mt 116) 1 6 [.ref 1, .int p0, .ref 1441] h (wrP code1 Q) := by
  refine mj_CtH mj_ok tb_116 hb_116 rfl (Nat.le_of_ble_eq_true rfl) (fun Run hR => ?_)
  refine hR 60 0 _ _ _ _ _ _ rfl ?_
  refine ⟨k1, 1, 6, Q, c, Nat.le_refl _, Nat.le_refl _, fun o1 h1 q => ?_⟩
  rcases hQ o1 h1 q with ⟨v, rfl, a1, a2⟩ | ⟨x, rfl, hx⟩
  · refine ⟨a1, ?_, Or.inl ⟨v, h1, q, rfl, rfl⟩⟩
    rw [a2]
    exact jI_in (by omega) (by omega) (by omega)
  · exact ⟨Or.inr (Or.inr hx), fun _ => Or.inr ⟨x, q, rfl⟩, fun e => absurd hx e⟩
/-- FormHouseLaw.exponent(LFormHouse;II[J)I; cuts at [] -/
def cd_118 : List mj_E := [(0, false, .aload_n 3, 1, 0, 0, 0, 0, 0),
  (1, false, .iconst 0, 1, 0, 0, 0, jI 0, 0),
  (2, false, .aload_n 0, 1, 0, 0, 0, 0, 0),
  (3, false, .iload_n 1, 1, 0, 0, 0, 0, 0),
  (4, false, .iload_n 2, 1, 0, 0, 0, 0, 0),
  (5, false, .invokevirtual 36, 3, 119, 2, 0, 0, 0),
  (8, false, .i2l, 1, 0, 0, 0, 0, 0),
  (9, false, .lastore, 1, 0, 0, 0, 0, 0),
  (10, false, .goto 7, 3, 12, 0, 0, 0, 0),
  (13, false, .astore 4, 2, 0, 0, 0, 0, 0),
  (15, false, .iconst 1, 1, 0, 0, 0, jI 1, 0),
  (16, false, .ireturn, 1, 0, 0, 0, 0, 0),
  (17, false, .iconst 0, 1, 0, 0, 0, jI 0, 0),
  (18, false, .ireturn, 1, 0, 0, 0, 0, 0)]
def cx_118 : mj_X := (1, [(0, 10, 9, 21)], [])
theorem hb_118 : mj_hB (mj_mt 118) cd_118 cx_118.2.1 (mM_h (mj_mt 118)) [5072] = true := by decide +kernel
theorem tb_118 : mj_tab (mj_mt 118) cx_118 cd_118 mj_mh [(0, 0, 0), (0, 0, 0), (0, 0, 0), (0, 0, 0), (0, 0, 0), (5144, 0, 0), (0, 0, 0), (0, 0, 0), (0, 0, 0), (0, 0, 0), (0, 0, 0), (0, 0, 0), (0, 0, 0), (0, 0, 0)] = true := mj_tab_f (by decide +kernel)
theorem ct_118 (G : mj_G) {h : mj_H} (k1 : hK h 1 = 10) {p0 p1 : Int32} {Q : mj_Q} (c : mj_Ct G (mj_mt 119) 1 6 [.ref 1, .int p0, .int p1] h Q) (hQ : ∀ o1 h1, Q o1 h1 → wrQ (fun k => k = 81) o1 h1) : mj_Ct G (mj_mt 118) 1 6 [.ref 1, .int p0, .int p1, .ref 1441] h (wrP code1 Q) := by
  refine mj_CtH mj_ok tb_118 hb_118 rfl (Nat.le_of_ble_eq_true rfl) (fun Run hR => ?_)
  refine hR 60 0 _ _ _ _ _ _ rfl ?_
  refine ⟨k1, 1, 6, Q, c, Nat.le_refl _, Nat.le_refl _, fun o1 h1 q => ?_⟩
  rcases hQ o1 h1 q with ⟨v, rfl, a1, a2⟩ | ⟨x, rfl, hx⟩
  · refine ⟨a1, ?_, Or.inl ⟨v, h1, q, rfl, rfl⟩⟩
    rw [a2]
    exact jI_in (by omega) (by omega) (by omega)
  · exact ⟨Or.inr (Or.inr hx), fun _ => Or.inr ⟨x, q, rfl⟩, fun e => absurd hx e⟩
/-- FormHouseLaw.prime(LFormHouse;I[J)I; cuts at [] -/
def cd_120 : List mj_E := [(0, false, .aload_n 2, 1, 0, 0, 0, 0, 0),
  (1, false, .iconst 0, 1, 0, 0, 0, jI 0, 0),
  (2, false, .aload_n 0, 1, 0, 0, 0, 0, 0),
  (3, false, .iload_n 1, 1, 0, 0, 0, 0, 0),
  (4, false, .invokevirtual 39, 3, 121, 1, 0, 0, 0),
  (7, false, .i2l, 1, 0, 0, 0, 0, 0),
  (8, false, .lastore, 1, 0, 0, 0, 0, 0),
  (9, false, .goto 6, 3, 11, 0, 0, 0, 0),
  (12, false, .astore_n 3, 1, 0, 0, 0, 0, 0),
  (13, false, .iconst 1, 1, 0, 0, 0, jI 1, 0),
  (14, false, .ireturn, 1, 0, 0, 0, 0, 0),
  (15, false, .iconst 0, 1, 0, 0, 0, jI 0, 0),
  (16, false, .ireturn, 1, 0, 0, 0, 0, 0)]
def cx_120 : mj_X := (1, [(0, 9, 8, 21)], [])
theorem hb_120 : mj_hB (mj_mt 120) cd_120 cx_120.2.1 (mM_h (mj_mt 120)) [5072] = true := by decide +kernel
theorem tb_120 : mj_tab (mj_mt 120) cx_120 cd_120 mj_mh [(0, 0, 0), (0, 0, 0), (0, 0, 0), (0, 0, 0), (5151, 0, 0), (0, 0, 0), (0, 0, 0), (0, 0, 0), (0, 0, 0), (0, 0, 0), (0, 0, 0), (0, 0, 0), (0, 0, 0)] = true := mj_tab_f (by decide +kernel)
theorem ct_120 (G : mj_G) {h : mj_H} (k1 : hK h 1 = 10) {p0 : Int32} {Q : mj_Q} (c : mj_Ct G (mj_mt 121) 1 6 [.ref 1, .int p0] h Q) (hQ : ∀ o1 h1, Q o1 h1 → wrQ (fun k => k = 81) o1 h1) : mj_Ct G (mj_mt 120) 1 6 [.ref 1, .int p0, .ref 1441] h (wrP code1 Q) := by
  refine mj_CtH mj_ok tb_120 hb_120 rfl (Nat.le_of_ble_eq_true rfl) (fun Run hR => ?_)
  refine hR 60 0 _ _ _ _ _ _ rfl ?_
  refine ⟨k1, 1, 6, Q, c, Nat.le_refl _, Nat.le_refl _, fun o1 h1 q => ?_⟩
  rcases hQ o1 h1 q with ⟨v, rfl, a1, a2⟩ | ⟨x, rfl, hx⟩
  · refine ⟨a1, ?_, Or.inl ⟨v, h1, q, rfl, rfl⟩⟩
    rw [a2]
    exact jI_in (by omega) (by omega) (by omega)
  · exact ⟨Or.inr (Or.inr hx), fun _ => Or.inr ⟨x, q, rfl⟩, fun e => absurd hx e⟩
/-- FormHouseLaw.character(LFormHouse;II[J)I; cuts at [] -/
def cd_122 : List mj_E := [(0, false, .aload_n 3, 1, 0, 0, 0, 0, 0),
  (1, false, .iconst 0, 1, 0, 0, 0, jI 0, 0),
  (2, false, .aload_n 0, 1, 0, 0, 0, 0, 0),
  (3, false, .iload_n 1, 1, 0, 0, 0, 0, 0),
  (4, false, .iload_n 2, 1, 0, 0, 0, 0, 0),
  (5, false, .invokevirtual 42, 3, 123, 2, 0, 0, 0),
  (8, false, .i2l, 1, 0, 0, 0, 0, 0),
  (9, false, .lastore, 1, 0, 0, 0, 0, 0),
  (10, false, .goto 7, 3, 12, 0, 0, 0, 0),
  (13, false, .astore 4, 2, 0, 0, 0, 0, 0),
  (15, false, .iconst 1, 1, 0, 0, 0, jI 1, 0),
  (16, false, .ireturn, 1, 0, 0, 0, 0, 0),
  (17, false, .iconst 0, 1, 0, 0, 0, jI 0, 0),
  (18, false, .ireturn, 1, 0, 0, 0, 0, 0)]
def cx_122 : mj_X := (1, [(0, 10, 9, 21)], [])
theorem hb_122 : mj_hB (mj_mt 122) cd_122 cx_122.2.1 (mM_h (mj_mt 122)) [5072] = true := by decide +kernel
theorem tb_122 : mj_tab (mj_mt 122) cx_122 cd_122 mj_mh [(0, 0, 0), (0, 0, 0), (0, 0, 0), (0, 0, 0), (0, 0, 0), (5158, 0, 0), (0, 0, 0), (0, 0, 0), (0, 0, 0), (0, 0, 0), (0, 0, 0), (0, 0, 0), (0, 0, 0), (0, 0, 0)] = true := mj_tab_f (by decide +kernel)
theorem ct_122 (G : mj_G) {h : mj_H} (k1 : hK h 1 = 10) {p0 p1 : Int32} {Q : mj_Q} (c : mj_Ct G (mj_mt 123) 1 6 [.ref 1, .int p0, .int p1] h Q) (hQ : ∀ o1 h1, Q o1 h1 → wrQ (fun k => k = 81) o1 h1) : mj_Ct G (mj_mt 122) 1 6 [.ref 1, .int p0, .int p1, .ref 1441] h (wrP code1 Q) := by
  refine mj_CtH mj_ok tb_122 hb_122 rfl (Nat.le_of_ble_eq_true rfl) (fun Run hR => ?_)
  refine hR 60 0 _ _ _ _ _ _ rfl ?_
  refine ⟨k1, 1, 6, Q, c, Nat.le_refl _, Nat.le_refl _, fun o1 h1 q => ?_⟩
  rcases hQ o1 h1 q with ⟨v, rfl, a1, a2⟩ | ⟨x, rfl, hx⟩
  · refine ⟨a1, ?_, Or.inl ⟨v, h1, q, rfl, rfl⟩⟩
    rw [a2]
    exact jI_in (by omega) (by omega) (by omega)
  · exact ⟨Or.inr (Or.inr hx), fun _ => Or.inr ⟨x, q, rfl⟩, fun e => absurd hx e⟩
/-- FormHouseLaw.kronecker(LFormHouse;I[J)I; cuts at [] -/
def cd_125 : List mj_E := [(0, false, .aload_n 2, 1, 0, 0, 0, 0, 0),
  (1, false, .iconst 0, 1, 0, 0, 0, jI 0, 0),
  (2, false, .aload_n 0, 1, 0, 0, 0, 0, 0),
  (3, false, .iload_n 1, 1, 0, 0, 0, 0, 0),
  (4, false, .invokevirtual 45, 3, 126, 1, 0, 0, 0),
  (7, false, .i2l, 1, 0, 0, 0, 0, 0),
  (8, false, .lastore, 1, 0, 0, 0, 0, 0),
  (9, false, .goto 6, 3, 11, 0, 0, 0, 0),
  (12, false, .astore_n 3, 1, 0, 0, 0, 0, 0),
  (13, false, .iconst 1, 1, 0, 0, 0, jI 1, 0),
  (14, false, .ireturn, 1, 0, 0, 0, 0, 0),
  (15, false, .iconst 0, 1, 0, 0, 0, jI 0, 0),
  (16, false, .ireturn, 1, 0, 0, 0, 0, 0)]
def cx_125 : mj_X := (1, [(0, 9, 8, 20)], [])
theorem hb_125 : mj_hB (mj_mt 125) cd_125 cx_125.2.1 (mM_h (mj_mt 125)) [5041] = true := by decide +kernel
theorem tb_125 : mj_tab (mj_mt 125) cx_125 cd_125 mj_mh [(0, 0, 0), (0, 0, 0), (0, 0, 0), (0, 0, 0), (5170, 0, 0), (0, 0, 0), (0, 0, 0), (0, 0, 0), (0, 0, 0), (0, 0, 0), (0, 0, 0), (0, 0, 0), (0, 0, 0)] = true := mj_tab_f (by decide +kernel)
theorem ct_125 (G : mj_G) {h : mj_H} (k1 : hK h 1 = 10) {p0 : Int32} {Q : mj_Q} (c : mj_Ct G (mj_mt 126) 1 6 [.ref 1, .int p0] h Q) (hQ : ∀ o1 h1, Q o1 h1 → wrQ (fun k => k = 80) o1 h1) : mj_Ct G (mj_mt 125) 1 6 [.ref 1, .int p0, .ref 1441] h (wrP code1 Q) := by
  refine mj_CtH mj_ok tb_125 hb_125 rfl (Nat.le_of_ble_eq_true rfl) (fun Run hR => ?_)
  refine hR 60 0 _ _ _ _ _ _ rfl ?_
  refine ⟨k1, 1, 6, Q, c, Nat.le_refl _, Nat.le_refl _, fun o1 h1 q => ?_⟩
  rcases hQ o1 h1 q with ⟨v, rfl, a1, a2⟩ | ⟨x, rfl, hx⟩
  · refine ⟨a1, ?_, Or.inl ⟨v, h1, q, rfl, rfl⟩⟩
    rw [a2]
    exact jI_in (by omega) (by omega) (by omega)
  · exact ⟨Or.inr (Or.inl hx), fun _ => Or.inr ⟨x, q, rfl⟩, fun e => absurd hx e⟩
/-- FormHouseLaw.ask(LFormHouse;III[J)I; cuts at [] -/
def cd_130 : List mj_E := [(0, false, .aload 4, 2, 0, 0, 0, 0, 0),
  (2, false, .iconst 0, 1, 0, 0, 0, jI 0, 0),
  (3, false, .aload_n 0, 1, 0, 0, 0, 0, 0),
  (4, false, .iload_n 1, 1, 0, 0, 0, 0, 0),
  (5, false, .iload_n 2, 1, 0, 0, 0, 0, 0),
  (6, false, .iload_n 3, 1, 0, 0, 0, 0, 0),
  (7, false, .invokevirtual 48, 3, 131, 3, 0, 0, 0),
  (10, false, .i2l, 1, 0, 0, 0, 0, 0),
  (11, false, .lastore, 1, 0, 0, 0, 0, 0),
  (12, false, .goto 7, 3, 13, 0, 0, 0, 0),
  (15, false, .astore 5, 2, 0, 0, 0, 0, 0),
  (17, false, .iconst 1, 1, 0, 0, 0, jI 1, 0),
  (18, false, .ireturn, 1, 0, 0, 0, 0, 0),
  (19, false, .iconst 0, 1, 0, 0, 0, jI 0, 0),
  (20, false, .ireturn, 1, 0, 0, 0, 0, 0)]
def cx_130 : mj_X := (1, [(0, 12, 10, 20)], [])
theorem hb_130 : mj_hB (mj_mt 130) cd_130 cx_130.2.1 (mM_h (mj_mt 130)) [5041] = true := by decide +kernel
theorem tb_130 : mj_tab (mj_mt 130) cx_130 cd_130 mj_mh [(0, 0, 0), (0, 0, 0), (0, 0, 0), (0, 0, 0), (0, 0, 0), (0, 0, 0), (5194, 0, 0), (0, 0, 0), (0, 0, 0), (0, 0, 0), (0, 0, 0), (0, 0, 0), (0, 0, 0), (0, 0, 0), (0, 0, 0)] = true := mj_tab_f (by decide +kernel)
theorem ct_130 (G : mj_G) {h : mj_H} (k1 : hK h 1 = 10) {p0 p1 p2 : Int32} {Q : mj_Q} (c : mj_Ct G (mj_mt 131) 1 6 [.ref 1, .int p0, .int p1, .int p2] h Q) (hQ : ∀ o1 h1, Q o1 h1 → wrQ (fun k => k = 80) o1 h1) : mj_Ct G (mj_mt 130) 1 6 [.ref 1, .int p0, .int p1, .int p2, .ref 1441] h (wrP code1 Q) := by
  refine mj_CtH mj_ok tb_130 hb_130 rfl (Nat.le_of_ble_eq_true rfl) (fun Run hR => ?_)
  refine hR 60 0 _ _ _ _ _ _ rfl ?_
  refine ⟨k1, 1, 6, Q, c, Nat.le_refl _, Nat.le_refl _, fun o1 h1 q => ?_⟩
  rcases hQ o1 h1 q with ⟨v, rfl, a1, a2⟩ | ⟨x, rfl, hx⟩
  · refine ⟨a1, ?_, Or.inl ⟨v, h1, q, rfl, rfl⟩⟩
    rw [a2]
    exact jI_in (by omega) (by omega) (by omega)
  · exact ⟨Or.inr (Or.inl hx), fun _ => Or.inr ⟨x, q, rfl⟩, fun e => absurd hx e⟩
/-- FormHouseLaw.form(LFormHouse;I[J)I; cuts at [] -/
def cd_134 : List mj_E := [(0, false, .aload_n 2, 1, 0, 0, 0, 0, 0),
  (1, false, .iconst 0, 1, 0, 0, 0, jI 0, 0),
  (2, false, .aload_n 0, 1, 0, 0, 0, 0, 0),
  (3, false, .iload_n 1, 1, 0, 0, 0, 0, 0),
  (4, false, .invokevirtual 52, 3, 135, 1, 0, 0, 0),
  (7, false, .i2l, 1, 0, 0, 0, 0, 0),
  (8, false, .lastore, 1, 0, 0, 0, 0, 0),
  (9, false, .goto 6, 3, 11, 0, 0, 0, 0),
  (12, false, .astore_n 3, 1, 0, 0, 0, 0, 0),
  (13, false, .iconst 1, 1, 0, 0, 0, jI 1, 0),
  (14, false, .ireturn, 1, 0, 0, 0, 0, 0),
  (15, false, .iconst 0, 1, 0, 0, 0, jI 0, 0),
  (16, false, .ireturn, 1, 0, 0, 0, 0, 0)]
def cx_134 : mj_X := (1, [(0, 9, 8, 21)], [])
theorem hb_134 : mj_hB (mj_mt 134) cd_134 cx_134.2.1 (mM_h (mj_mt 134)) [5072] = true := by decide +kernel
theorem tb_134 : mj_tab (mj_mt 134) cx_134 cd_134 mj_mh [(0, 0, 0), (0, 0, 0), (0, 0, 0), (0, 0, 0), (5212, 0, 0), (0, 0, 0), (0, 0, 0), (0, 0, 0), (0, 0, 0), (0, 0, 0), (0, 0, 0), (0, 0, 0), (0, 0, 0)] = true := mj_tab_f (by decide +kernel)
theorem ct_134 (G : mj_G) {h : mj_H} (k1 : hK h 1 = 10) {p0 : Int32} {Q : mj_Q} (c : mj_Ct G (mj_mt 135) 1 6 [.ref 1, .int p0] h Q) (hQ : ∀ o1 h1, Q o1 h1 → wrQ (fun k => k = 81) o1 h1) : mj_Ct G (mj_mt 134) 1 6 [.ref 1, .int p0, .ref 1441] h (wrP code1 Q) := by
  refine mj_CtH mj_ok tb_134 hb_134 rfl (Nat.le_of_ble_eq_true rfl) (fun Run hR => ?_)
  refine hR 60 0 _ _ _ _ _ _ rfl ?_
  refine ⟨k1, 1, 6, Q, c, Nat.le_refl _, Nat.le_refl _, fun o1 h1 q => ?_⟩
  rcases hQ o1 h1 q with ⟨v, rfl, a1, a2⟩ | ⟨x, rfl, hx⟩
  · refine ⟨a1, ?_, Or.inl ⟨v, h1, q, rfl, rfl⟩⟩
    rw [a2]
    exact jI_in (by omega) (by omega) (by omega)
  · exact ⟨Or.inr (Or.inr hx), fun _ => Or.inr ⟨x, q, rfl⟩, fun e => absurd hx e⟩
/-- FormHouseLaw.solve(LFormHouse;I[J)I; cuts at [] -/
def cd_136 : List mj_E := [(0, false, .aload_n 2, 1, 0, 0, 0, 0, 0),
  (1, false, .iconst 0, 1, 0, 0, 0, jI 0, 0),
  (2, false, .aload_n 0, 1, 0, 0, 0, 0, 0),
  (3, false, .iload_n 1, 1, 0, 0, 0, 0, 0),
  (4, false, .invokevirtual 55, 3, 137, 1, 0, 0, 0),
  (7, false, .i2l, 1, 0, 0, 0, 0, 0),
  (8, false, .lastore, 1, 0, 0, 0, 0, 0),
  (9, false, .goto 9, 3, 14, 0, 0, 0, 0),
  (12, false, .astore_n 3, 1, 0, 0, 0, 0, 0),
  (13, false, .iconst 1, 1, 0, 0, 0, jI 1, 0),
  (14, false, .ireturn, 1, 0, 0, 0, 0, 0),
  (15, false, .astore_n 3, 1, 0, 0, 0, 0, 0),
  (16, false, .iconst 2, 1, 0, 0, 0, jI 2, 0),
  (17, false, .ireturn, 1, 0, 0, 0, 0, 0),
  (18, false, .iconst 0, 1, 0, 0, 0, jI 0, 0),
  (19, false, .ireturn, 1, 0, 0, 0, 0, 0)]
def cx_136 : mj_X := (1, [(0, 9, 8, 20), (0, 9, 11, 18)], [])
theorem hb_136 : mj_hB (mj_mt 136) cd_136 cx_136.2.1 (mM_h (mj_mt 136)) [5041, 5219] = true := by decide +kernel
theorem tb_136 : mj_tab (mj_mt 136) cx_136 cd_136 mj_mh [(0, 0, 0), (0, 0, 0), (0, 0, 0), (0, 0, 0), (5220, 0, 0), (0, 0, 0), (0, 0, 0), (0, 0, 0), (0, 0, 0), (0, 0, 0), (0, 0, 0), (0, 0, 0), (0, 0, 0), (0, 0, 0), (0, 0, 0), (0, 0, 0)] = true := mj_tab_f (by decide +kernel)
theorem ct_136 (G : mj_G) {h : mj_H} (k1 : hK h 1 = 10) {p0 : Int32} {Q : mj_Q} (c : mj_Ct G (mj_mt 137) 1 6 [.ref 1, .int p0] h Q) (hQ : ∀ o1 h1, Q o1 h1 → wrQ (fun k => k = 80 ∨ k = 78) o1 h1) : mj_Ct G (mj_mt 136) 1 6 [.ref 1, .int p0, .ref 1441] h (wrP code80 Q) := by
  refine mj_CtH mj_ok tb_136 hb_136 rfl (Nat.le_of_ble_eq_true rfl) (fun Run hR => ?_)
  refine hR 60 0 _ _ _ _ _ _ rfl ?_
  refine ⟨k1, 1, 6, Q, c, Nat.le_refl _, Nat.le_refl _, fun o1 h1 q => ?_⟩
  rcases hQ o1 h1 q with ⟨v, rfl, a1, a2⟩ | ⟨x, rfl, hx⟩
  · refine ⟨a1, ?_, Or.inl ⟨v, h1, q, rfl, rfl⟩⟩
    rw [a2]
    exact jI_in (by omega) (by omega) (by omega)
  · rcases hx with hx | hx
    · refine ⟨Or.inr (Or.inl hx), fun _ => Or.inr ⟨x, q, ?_⟩, fun e => absurd hx e⟩
      unfold code80
      rw [if_pos hx]
    · refine ⟨Or.inl hx, fun e => absurd (hx.symm.trans e) (by decide), fun _ => ⟨Or.inl hx, fun _ => Or.inr ⟨x, q, ?_⟩, fun e => absurd hx e⟩⟩
      unfold code80
      rw [if_neg (by rw [hx]; decide)]
/-- FormHouseLaw.divisor(LFormHouse;I[J)I; cuts at [] -/
def cd_170 : List mj_E := [(0, false, .aload_n 2, 1, 0, 0, 0, 0, 0),
  (1, false, .iconst 0, 1, 0, 0, 0, jI 0, 0),
  (2, false, .aload_n 0, 1, 0, 0, 0, 0, 0),
  (3, false, .iload_n 1, 1, 0, 0, 0, 0, 0),
  (4, false, .invokevirtual 60, 3, 171, 1, 0, 0, 0),
  (7, false, .i2l, 1, 0, 0, 0, 0, 0),
  (8, false, .lastore, 1, 0, 0, 0, 0, 0),
  (9, false, .goto 6, 3, 11, 0, 0, 0, 0),
  (12, false, .astore_n 3, 1, 0, 0, 0, 0, 0),
  (13, false, .iconst 1, 1, 0, 0, 0, jI 1, 0),
  (14, false, .ireturn, 1, 0, 0, 0, 0, 0),
  (15, false, .iconst 0, 1, 0, 0, 0, jI 0, 0),
  (16, false, .ireturn, 1, 0, 0, 0, 0, 0)]
def cx_170 : mj_X := (1, [(0, 9, 8, 21)], [])
theorem hb_170 : mj_hB (mj_mt 170) cd_170 cx_170.2.1 (mM_h (mj_mt 170)) [5072] = true := by decide +kernel
theorem tb_170 : mj_tab (mj_mt 170) cx_170 cd_170 mj_mh [(0, 0, 0), (0, 0, 0), (0, 0, 0), (0, 0, 0), (6129, 0, 0), (0, 0, 0), (0, 0, 0), (0, 0, 0), (0, 0, 0), (0, 0, 0), (0, 0, 0), (0, 0, 0), (0, 0, 0)] = true := mj_tab_f (by decide +kernel)
theorem ct_170 (G : mj_G) {h : mj_H} (k1 : hK h 1 = 10) {p0 : Int32} {Q : mj_Q} (c : mj_Ct G (mj_mt 171) 1 6 [.ref 1, .int p0] h Q) (hQ : ∀ o1 h1, Q o1 h1 → wrQ (fun k => k = 81) o1 h1) : mj_Ct G (mj_mt 170) 1 6 [.ref 1, .int p0, .ref 1441] h (wrP code1 Q) := by
  refine mj_CtH mj_ok tb_170 hb_170 rfl (Nat.le_of_ble_eq_true rfl) (fun Run hR => ?_)
  refine hR 60 0 _ _ _ _ _ _ rfl ?_
  refine ⟨k1, 1, 6, Q, c, Nat.le_refl _, Nat.le_refl _, fun o1 h1 q => ?_⟩
  rcases hQ o1 h1 q with ⟨v, rfl, a1, a2⟩ | ⟨x, rfl, hx⟩
  · refine ⟨a1, ?_, Or.inl ⟨v, h1, q, rfl, rfl⟩⟩
    rw [a2]
    exact jI_in (by omega) (by omega) (by omega)
  · exact ⟨Or.inr (Or.inr hx), fun _ => Or.inr ⟨x, q, rfl⟩, fun e => absurd hx e⟩
/-- FormHouseLaw.root(LFormHouse;I[J)I; cuts at [] -/
def cd_172 : List mj_E := [(0, false, .aload_n 2, 1, 0, 0, 0, 0, 0),
  (1, false, .iconst 0, 1, 0, 0, 0, jI 0, 0),
  (2, false, .aload_n 0, 1, 0, 0, 0, 0, 0),
  (3, false, .iload_n 1, 1, 0, 0, 0, 0, 0),
  (4, false, .invokevirtual 63, 3, 173, 1, 0, 0, 0),
  (7, false, .i2l, 1, 0, 0, 0, 0, 0),
  (8, false, .lastore, 1, 0, 0, 0, 0, 0),
  (9, false, .goto 6, 3, 11, 0, 0, 0, 0),
  (12, false, .astore_n 3, 1, 0, 0, 0, 0, 0),
  (13, false, .iconst 1, 1, 0, 0, 0, jI 1, 0),
  (14, false, .ireturn, 1, 0, 0, 0, 0, 0),
  (15, false, .iconst 0, 1, 0, 0, 0, jI 0, 0),
  (16, false, .ireturn, 1, 0, 0, 0, 0, 0)]
def cx_172 : mj_X := (1, [(0, 9, 8, 21)], [])
theorem hb_172 : mj_hB (mj_mt 172) cd_172 cx_172.2.1 (mM_h (mj_mt 172)) [5072] = true := by decide +kernel
theorem tb_172 : mj_tab (mj_mt 172) cx_172 cd_172 mj_mh [(0, 0, 0), (0, 0, 0), (0, 0, 0), (0, 0, 0), (6136, 0, 0), (0, 0, 0), (0, 0, 0), (0, 0, 0), (0, 0, 0), (0, 0, 0), (0, 0, 0), (0, 0, 0), (0, 0, 0)] = true := mj_tab_f (by decide +kernel)
theorem ct_172 (G : mj_G) {h : mj_H} (k1 : hK h 1 = 10) {p0 : Int32} {Q : mj_Q} (c : mj_Ct G (mj_mt 173) 1 6 [.ref 1, .int p0] h Q) (hQ : ∀ o1 h1, Q o1 h1 → wrQ (fun k => k = 81) o1 h1) : mj_Ct G (mj_mt 172) 1 6 [.ref 1, .int p0, .ref 1441] h (wrP code1 Q) := by
  refine mj_CtH mj_ok tb_172 hb_172 rfl (Nat.le_of_ble_eq_true rfl) (fun Run hR => ?_)
  refine hR 60 0 _ _ _ _ _ _ rfl ?_
  refine ⟨k1, 1, 6, Q, c, Nat.le_refl _, Nat.le_refl _, fun o1 h1 q => ?_⟩
  rcases hQ o1 h1 q with ⟨v, rfl, a1, a2⟩ | ⟨x, rfl, hx⟩
  · refine ⟨a1, ?_, Or.inl ⟨v, h1, q, rfl, rfl⟩⟩
    rw [a2]
    exact jI_in (by omega) (by omega) (by omega)
  · exact ⟨Or.inr (Or.inr hx), fun _ => Or.inr ⟨x, q, rfl⟩, fun e => absurd hx e⟩
/-- FormHouseLaw.tellers(LFormHouse;I[J)I; cuts at [] -/
def cd_174 : List mj_E := [(0, false, .aload_n 2, 1, 0, 0, 0, 0, 0),
  (1, false, .iconst 0, 1, 0, 0, 0, jI 0, 0),
  (2, false, .aload_n 0, 1, 0, 0, 0, 0, 0),
  (3, false, .iload_n 1, 1, 0, 0, 0, 0, 0),
  (4, false, .invokevirtual 66, 3, 175, 1, 0, 0, 0),
  (7, false, .i2l, 1, 0, 0, 0, 0, 0),
  (8, false, .lastore, 1, 0, 0, 0, 0, 0),
  (9, false, .goto 6, 3, 11, 0, 0, 0, 0),
  (12, false, .astore_n 3, 1, 0, 0, 0, 0, 0),
  (13, false, .iconst 1, 1, 0, 0, 0, jI 1, 0),
  (14, false, .ireturn, 1, 0, 0, 0, 0, 0),
  (15, false, .iconst 0, 1, 0, 0, 0, jI 0, 0),
  (16, false, .ireturn, 1, 0, 0, 0, 0, 0)]
def cx_174 : mj_X := (1, [(0, 9, 8, 20)], [])
theorem hb_174 : mj_hB (mj_mt 174) cd_174 cx_174.2.1 (mM_h (mj_mt 174)) [5041] = true := by decide +kernel
theorem tb_174 : mj_tab (mj_mt 174) cx_174 cd_174 mj_mh [(0, 0, 0), (0, 0, 0), (0, 0, 0), (0, 0, 0), (6143, 0, 0), (0, 0, 0), (0, 0, 0), (0, 0, 0), (0, 0, 0), (0, 0, 0), (0, 0, 0), (0, 0, 0), (0, 0, 0)] = true := mj_tab_f (by decide +kernel)
theorem ct_174 (G : mj_G) {h : mj_H} (k1 : hK h 1 = 10) {p0 : Int32} {Q : mj_Q} (c : mj_Ct G (mj_mt 175) 1 6 [.ref 1, .int p0] h Q) (hQ : ∀ o1 h1, Q o1 h1 → wrQ (fun k => k = 80) o1 h1) : mj_Ct G (mj_mt 174) 1 6 [.ref 1, .int p0, .ref 1441] h (wrP code1 Q) := by
  refine mj_CtH mj_ok tb_174 hb_174 rfl (Nat.le_of_ble_eq_true rfl) (fun Run hR => ?_)
  refine hR 60 0 _ _ _ _ _ _ rfl ?_
  refine ⟨k1, 1, 6, Q, c, Nat.le_refl _, Nat.le_refl _, fun o1 h1 q => ?_⟩
  rcases hQ o1 h1 q with ⟨v, rfl, a1, a2⟩ | ⟨x, rfl, hx⟩
  · refine ⟨a1, ?_, Or.inl ⟨v, h1, q, rfl, rfl⟩⟩
    rw [a2]
    exact jI_in (by omega) (by omega) (by omega)
  · exact ⟨Or.inr (Or.inl hx), fun _ => Or.inr ⟨x, q, rfl⟩, fun e => absurd hx e⟩
/-- FormHouseLaw.teller(LFormHouse;I[J)I; cuts at [] -/
def cd_176 : List mj_E := [(0, false, .aload_n 2, 1, 0, 0, 0, 0, 0),
  (1, false, .iconst 0, 1, 0, 0, 0, jI 0, 0),
  (2, false, .aload_n 0, 1, 0, 0, 0, 0, 0),
  (3, false, .iload_n 1, 1, 0, 0, 0, 0, 0),
  (4, false, .invokevirtual 69, 3, 177, 1, 0, 0, 0),
  (7, false, .i2l, 1, 0, 0, 0, 0, 0),
  (8, false, .lastore, 1, 0, 0, 0, 0, 0),
  (9, false, .goto 6, 3, 11, 0, 0, 0, 0),
  (12, false, .astore_n 3, 1, 0, 0, 0, 0, 0),
  (13, false, .iconst 1, 1, 0, 0, 0, jI 1, 0),
  (14, false, .ireturn, 1, 0, 0, 0, 0, 0),
  (15, false, .iconst 0, 1, 0, 0, 0, jI 0, 0),
  (16, false, .ireturn, 1, 0, 0, 0, 0, 0)]
def cx_176 : mj_X := (1, [(0, 9, 8, 21)], [])
theorem hb_176 : mj_hB (mj_mt 176) cd_176 cx_176.2.1 (mM_h (mj_mt 176)) [5072] = true := by decide +kernel
theorem tb_176 : mj_tab (mj_mt 176) cx_176 cd_176 mj_mh [(0, 0, 0), (0, 0, 0), (0, 0, 0), (0, 0, 0), (6150, 0, 0), (0, 0, 0), (0, 0, 0), (0, 0, 0), (0, 0, 0), (0, 0, 0), (0, 0, 0), (0, 0, 0), (0, 0, 0)] = true := mj_tab_f (by decide +kernel)
theorem ct_176 (G : mj_G) {h : mj_H} (k1 : hK h 1 = 10) {p0 : Int32} {Q : mj_Q} (c : mj_Ct G (mj_mt 177) 1 6 [.ref 1, .int p0] h Q) (hQ : ∀ o1 h1, Q o1 h1 → wrQ (fun k => k = 81) o1 h1) : mj_Ct G (mj_mt 176) 1 6 [.ref 1, .int p0, .ref 1441] h (wrP code1 Q) := by
  refine mj_CtH mj_ok tb_176 hb_176 rfl (Nat.le_of_ble_eq_true rfl) (fun Run hR => ?_)
  refine hR 60 0 _ _ _ _ _ _ rfl ?_
  refine ⟨k1, 1, 6, Q, c, Nat.le_refl _, Nat.le_refl _, fun o1 h1 q => ?_⟩
  rcases hQ o1 h1 q with ⟨v, rfl, a1, a2⟩ | ⟨x, rfl, hx⟩
  · refine ⟨a1, ?_, Or.inl ⟨v, h1, q, rfl, rfl⟩⟩
    rw [a2]
    exact jI_in (by omega) (by omega) (by omega)
  · exact ⟨Or.inr (Or.inr hx), fun _ => Or.inr ⟨x, q, rfl⟩, fun e => absurd hx e⟩
/-- FormHouseLaw.sign(LFormHouse;I[J)I; cuts at [] -/
def cd_178 : List mj_E := [(0, false, .aload_n 2, 1, 0, 0, 0, 0, 0),
  (1, false, .iconst 0, 1, 0, 0, 0, jI 0, 0),
  (2, false, .aload_n 0, 1, 0, 0, 0, 0, 0),
  (3, false, .iload_n 1, 1, 0, 0, 0, 0, 0),
  (4, false, .invokevirtual 72, 3, 179, 1, 0, 0, 0),
  (7, false, .i2l, 1, 0, 0, 0, 0, 0),
  (8, false, .lastore, 1, 0, 0, 0, 0, 0),
  (9, false, .goto 6, 3, 11, 0, 0, 0, 0),
  (12, false, .astore_n 3, 1, 0, 0, 0, 0, 0),
  (13, false, .iconst 1, 1, 0, 0, 0, jI 1, 0),
  (14, false, .ireturn, 1, 0, 0, 0, 0, 0),
  (15, false, .iconst 0, 1, 0, 0, 0, jI 0, 0),
  (16, false, .ireturn, 1, 0, 0, 0, 0, 0)]
def cx_178 : mj_X := (1, [(0, 9, 8, 21)], [])
theorem hb_178 : mj_hB (mj_mt 178) cd_178 cx_178.2.1 (mM_h (mj_mt 178)) [5072] = true := by decide +kernel
theorem tb_178 : mj_tab (mj_mt 178) cx_178 cd_178 mj_mh [(0, 0, 0), (0, 0, 0), (0, 0, 0), (0, 0, 0), (6157, 0, 0), (0, 0, 0), (0, 0, 0), (0, 0, 0), (0, 0, 0), (0, 0, 0), (0, 0, 0), (0, 0, 0), (0, 0, 0)] = true := mj_tab_f (by decide +kernel)
theorem ct_178 (G : mj_G) {h : mj_H} (k1 : hK h 1 = 10) {p0 : Int32} {Q : mj_Q} (c : mj_Ct G (mj_mt 179) 1 6 [.ref 1, .int p0] h Q) (hQ : ∀ o1 h1, Q o1 h1 → wrQ (fun k => k = 81) o1 h1) : mj_Ct G (mj_mt 178) 1 6 [.ref 1, .int p0, .ref 1441] h (wrP code1 Q) := by
  refine mj_CtH mj_ok tb_178 hb_178 rfl (Nat.le_of_ble_eq_true rfl) (fun Run hR => ?_)
  refine hR 60 0 _ _ _ _ _ _ rfl ?_
  refine ⟨k1, 1, 6, Q, c, Nat.le_refl _, Nat.le_refl _, fun o1 h1 q => ?_⟩
  rcases hQ o1 h1 q with ⟨v, rfl, a1, a2⟩ | ⟨x, rfl, hx⟩
  · refine ⟨a1, ?_, Or.inl ⟨v, h1, q, rfl, rfl⟩⟩
    rw [a2]
    exact jI_in (by omega) (by omega) (by omega)
  · exact ⟨Or.inr (Or.inr hx), fun _ => Or.inr ⟨x, q, rfl⟩, fun e => absurd hx e⟩
/-- FormHouseLaw.bits(LFormHouse;I[J)I; cuts at [] -/
def cd_182 : List mj_E := [(0, false, .aload_n 2, 1, 0, 0, 0, 0, 0),
  (1, false, .iconst 0, 1, 0, 0, 0, jI 0, 0),
  (2, false, .aload_n 0, 1, 0, 0, 0, 0, 0),
  (3, false, .iload_n 1, 1, 0, 0, 0, 0, 0),
  (4, false, .invokevirtual 75, 3, 183, 1, 0, 0, 0),
  (7, false, .i2l, 1, 0, 0, 0, 0, 0),
  (8, false, .lastore, 1, 0, 0, 0, 0, 0),
  (9, false, .goto 6, 3, 11, 0, 0, 0, 0),
  (12, false, .astore_n 3, 1, 0, 0, 0, 0, 0),
  (13, false, .iconst 1, 1, 0, 0, 0, jI 1, 0),
  (14, false, .ireturn, 1, 0, 0, 0, 0, 0),
  (15, false, .iconst 0, 1, 0, 0, 0, jI 0, 0),
  (16, false, .ireturn, 1, 0, 0, 0, 0, 0)]
def cx_182 : mj_X := (1, [(0, 9, 8, 21)], [])
theorem hb_182 : mj_hB (mj_mt 182) cd_182 cx_182.2.1 (mM_h (mj_mt 182)) [5072] = true := by decide +kernel
theorem tb_182 : mj_tab (mj_mt 182) cx_182 cd_182 mj_mh [(0, 0, 0), (0, 0, 0), (0, 0, 0), (0, 0, 0), (6171, 0, 0), (0, 0, 0), (0, 0, 0), (0, 0, 0), (0, 0, 0), (0, 0, 0), (0, 0, 0), (0, 0, 0), (0, 0, 0)] = true := mj_tab_f (by decide +kernel)
theorem ct_182 (G : mj_G) {h : mj_H} (k1 : hK h 1 = 10) {p0 : Int32} {Q : mj_Q} (c : mj_Ct G (mj_mt 183) 1 6 [.ref 1, .int p0] h Q) (hQ : ∀ o1 h1, Q o1 h1 → wrQ (fun k => k = 81) o1 h1) : mj_Ct G (mj_mt 182) 1 6 [.ref 1, .int p0, .ref 1441] h (wrP code1 Q) := by
  refine mj_CtH mj_ok tb_182 hb_182 rfl (Nat.le_of_ble_eq_true rfl) (fun Run hR => ?_)
  refine hR 60 0 _ _ _ _ _ _ rfl ?_
  refine ⟨k1, 1, 6, Q, c, Nat.le_refl _, Nat.le_refl _, fun o1 h1 q => ?_⟩
  rcases hQ o1 h1 q with ⟨v, rfl, a1, a2⟩ | ⟨x, rfl, hx⟩
  · refine ⟨a1, ?_, Or.inl ⟨v, h1, q, rfl, rfl⟩⟩
    rw [a2]
    exact jI_in (by omega) (by omega) (by omega)
  · exact ⟨Or.inr (Or.inr hx), fun _ => Or.inr ⟨x, q, rfl⟩, fun e => absurd hx e⟩
/-- FormHouseLaw.word(LFormHouse;II[J)I; cuts at [] -/
def cd_185 : List mj_E := [(0, false, .aload_n 3, 1, 0, 0, 0, 0, 0),
  (1, false, .iconst 0, 1, 0, 0, 0, jI 0, 0),
  (2, false, .aload_n 0, 1, 0, 0, 0, 0, 0),
  (3, false, .iload_n 1, 1, 0, 0, 0, 0, 0),
  (4, false, .iload_n 2, 1, 0, 0, 0, 0, 0),
  (5, false, .invokevirtual 78, 3, 186, 2, 0, 0, 0),
  (8, false, .i2l, 1, 0, 0, 0, 0, 0),
  (9, false, .lastore, 1, 0, 0, 0, 0, 0),
  (10, false, .goto 7, 3, 12, 0, 0, 0, 0),
  (13, false, .astore 4, 2, 0, 0, 0, 0, 0),
  (15, false, .iconst 1, 1, 0, 0, 0, jI 1, 0),
  (16, false, .ireturn, 1, 0, 0, 0, 0, 0),
  (17, false, .iconst 0, 1, 0, 0, 0, jI 0, 0),
  (18, false, .ireturn, 1, 0, 0, 0, 0, 0)]
def cx_185 : mj_X := (1, [(0, 10, 9, 21)], [])
theorem hb_185 : mj_hB (mj_mt 185) cd_185 cx_185.2.1 (mM_h (mj_mt 185)) [5072] = true := by decide +kernel
theorem tb_185 : mj_tab (mj_mt 185) cx_185 cd_185 mj_mh [(0, 0, 0), (0, 0, 0), (0, 0, 0), (0, 0, 0), (0, 0, 0), (6183, 0, 0), (0, 0, 0), (0, 0, 0), (0, 0, 0), (0, 0, 0), (0, 0, 0), (0, 0, 0), (0, 0, 0), (0, 0, 0)] = true := mj_tab_f (by decide +kernel)
theorem ct_185 (G : mj_G) {h : mj_H} (k1 : hK h 1 = 10) {p0 p1 : Int32} {Q : mj_Q} (c : mj_Ct G (mj_mt 186) 1 6 [.ref 1, .int p0, .int p1] h Q) (hQ : ∀ o1 h1, Q o1 h1 → wrQ (fun k => k = 81) o1 h1) : mj_Ct G (mj_mt 185) 1 6 [.ref 1, .int p0, .int p1, .ref 1441] h (wrP code1 Q) := by
  refine mj_CtH mj_ok tb_185 hb_185 rfl (Nat.le_of_ble_eq_true rfl) (fun Run hR => ?_)
  refine hR 60 0 _ _ _ _ _ _ rfl ?_
  refine ⟨k1, 1, 6, Q, c, Nat.le_refl _, Nat.le_refl _, fun o1 h1 q => ?_⟩
  rcases hQ o1 h1 q with ⟨v, rfl, a1, a2⟩ | ⟨x, rfl, hx⟩
  · refine ⟨a1, ?_, Or.inl ⟨v, h1, q, rfl, rfl⟩⟩
    rw [a2]
    exact jI_in (by omega) (by omega) (by omega)
  · exact ⟨Or.inr (Or.inr hx), fun _ => Or.inr ⟨x, q, rfl⟩, fun e => absurd hx e⟩
/-- FormHouseLaw.residue(LFormHouse;II[J)I; cuts at [] -/
def cd_187 : List mj_E := [(0, false, .aload_n 3, 1, 0, 0, 0, 0, 0),
  (1, false, .iconst 0, 1, 0, 0, 0, jI 0, 0),
  (2, false, .aload_n 0, 1, 0, 0, 0, 0, 0),
  (3, false, .iload_n 1, 1, 0, 0, 0, 0, 0),
  (4, false, .iload_n 2, 1, 0, 0, 0, 0, 0),
  (5, false, .invokevirtual 81, 3, 188, 2, 0, 0, 0),
  (8, false, .i2l, 1, 0, 0, 0, 0, 0),
  (9, false, .lastore, 1, 0, 0, 0, 0, 0),
  (10, false, .goto 11, 3, 15, 0, 0, 0, 0),
  (13, false, .astore 4, 2, 0, 0, 0, 0, 0),
  (15, false, .iconst 1, 1, 0, 0, 0, jI 1, 0),
  (16, false, .ireturn, 1, 0, 0, 0, 0, 0),
  (17, false, .astore 4, 2, 0, 0, 0, 0, 0),
  (19, false, .iconst 2, 1, 0, 0, 0, jI 2, 0),
  (20, false, .ireturn, 1, 0, 0, 0, 0, 0),
  (21, false, .iconst 0, 1, 0, 0, 0, jI 0, 0),
  (22, false, .ireturn, 1, 0, 0, 0, 0, 0)]
def cx_187 : mj_X := (1, [(0, 10, 9, 21), (0, 10, 12, 20)], [])
theorem hb_187 : mj_hB (mj_mt 187) cd_187 cx_187.2.1 (mM_h (mj_mt 187)) [5072, 5041] = true := by decide +kernel
theorem tb_187 : mj_tab (mj_mt 187) cx_187 cd_187 mj_mh [(0, 0, 0), (0, 0, 0), (0, 0, 0), (0, 0, 0), (0, 0, 0), (6190, 0, 0), (0, 0, 0), (0, 0, 0), (0, 0, 0), (0, 0, 0), (0, 0, 0), (0, 0, 0), (0, 0, 0), (0, 0, 0), (0, 0, 0), (0, 0, 0), (0, 0, 0)] = true := mj_tab_f (by decide +kernel)
theorem ct_187 (G : mj_G) {h : mj_H} (k1 : hK h 1 = 10) {p0 p1 : Int32} {Q : mj_Q} (c : mj_Ct G (mj_mt 188) 1 6 [.ref 1, .int p0, .int p1] h Q) (hQ : ∀ o1 h1, Q o1 h1 → wrQ (fun k => k = 81 ∨ k = 80) o1 h1) : mj_Ct G (mj_mt 187) 1 6 [.ref 1, .int p0, .int p1, .ref 1441] h (wrP code81 Q) := by
  refine mj_CtH mj_ok tb_187 hb_187 rfl (Nat.le_of_ble_eq_true rfl) (fun Run hR => ?_)
  refine hR 60 0 _ _ _ _ _ _ rfl ?_
  refine ⟨k1, 1, 6, Q, c, Nat.le_refl _, Nat.le_refl _, fun o1 h1 q => ?_⟩
  rcases hQ o1 h1 q with ⟨v, rfl, a1, a2⟩ | ⟨x, rfl, hx⟩
  · refine ⟨a1, ?_, Or.inl ⟨v, h1, q, rfl, rfl⟩⟩
    rw [a2]
    exact jI_in (by omega) (by omega) (by omega)
  · rcases hx with hx | hx
    · refine ⟨Or.inr (Or.inr hx), fun _ => Or.inr ⟨x, q, ?_⟩, fun e => absurd hx e⟩
      unfold code81
      rw [if_pos hx]
    · refine ⟨Or.inr (Or.inl hx), fun e => absurd (hx.symm.trans e) (by decide), fun _ => ⟨Or.inr (Or.inl hx), fun _ => Or.inr ⟨x, q, ?_⟩, fun e => absurd hx e⟩⟩
      unfold code81
      rw [if_neg (by rw [hx]; decide)]
