/-! the model: solutions below 0 -/
theorem pos_nz {n : Int} (h : 0 ≤ n) (g : n ≠ 0) : 0 < n := by omega
theorem nodup_sub {α : Type} [DecidableEq α] : ∀ (L M : List α), L.Nodup → (∀ x, x ∈ L → x ∈ M) → L.length ≤ M.length
  | [], M, _, _ => Nat.zero_le _
  | x :: t, M, h, hs => by
    have hx := hs x (List.mem_cons_self ..)
    obtain ⟨h1, h2⟩ := List.nodup_cons.1 h
    have ih := nodup_sub t (M.erase x) h2 (fun y hy => by
      have hne : y ≠ x := fun e => h1 (e ▸ hy)
      exact (List.mem_erase_of_ne hne).2 (hs y (List.mem_cons_of_mem _ hy)))
    rw [List.length_erase_of_mem hx] at ih
    have := List.length_pos_of_mem hx
    show t.length + 1 ≤ _
    omega
noncomputable def rtZ (v : Int) : Int := @dite _ (∃ r, isWd v r) (Classical.propDecidable _) (fun h => Classical.choose h) (fun _ => 0)
theorem rtZ_eq {v r : Int} (h : isWd v r) : rtZ v = r := by
  have hx : ∃ r, isWd v r := ⟨r, h⟩
  unfold rtZ
  rw [dif_pos hx]
  exact isWd_unique (Classical.choose_spec hx) h
/-- the solutions at y -/
noncomputable def candL (d A B n y : Int) : List zI := if rtZ (4 * A * n + d * y * y) * rtZ (4 * A * n + d * y * y) = 4 * A * n + d * y * y then (if (rtZ (4 * A * n + d * y * y) - B * y).tmod (2 * A) = 0 then [((rtZ (4 * A * n + d * y * y) - B * y).tdiv (2 * A), y)] else []) ++ (if 0 < rtZ (4 * A * n + d * y * y) ∧ (-(rtZ (4 * A * n + d * y * y)) - B * y).tmod (2 * A) = 0 then [((-(rtZ (4 * A * n + d * y * y)) - B * y).tdiv (2 * A), y)] else []) else []
noncomputable def xsF (d : Int) (f : Fm) (an : Nat → Int) (m : Nat) (s : xS) (l : List zI) : xS := l.foldl (fun s z => putX s (solZ d f (abk an m z))) s
noncomputable def belS (d : Int) (f : Fm) (an : Nat → Int) (m : Nat) (A B n : Int) : Nat → Int → xS → xS
  | 0, _, s => s
  | k + 1, y, s => belS d f an m A B n k (y + 1) (xsF d f an m s (candL d A B n y))
theorem xsF_app (d : Int) (f : Fm) (an : Nat → Int) (m : Nat) (s : xS) (l l' : List zI) : xsF d f an m s (l ++ l') = xsF d f an m (xsF d f an m s l) l' := List.foldl_append
theorem putX_len (s : xS) (z : zI) : (putX s z).1.length + (putX s z).2 ≤ s.1.length + s.2 + 1 := by
  unfold putX
  split
  · omega
  · split
    · simp only [List.length_append, List.length_cons, List.length_nil]
      omega
    · simp only
      omega
theorem putX_nodup {s : xS} {z : zI} (h : s.1.Nodup) : (putX s z).1.Nodup := by
  unfold putX
  split
  · exact h
  · rename_i hz
    split
    · refine List.nodup_append.2 ⟨h, by simp, fun a ha b hb e => hz ?_⟩
      rw [← List.mem_singleton.1 hb, ← e]
      exact ha
    · exact h
theorem xsF_nodup (d : Int) (f : Fm) (an : Nat → Int) (m : Nat) : ∀ (l : List zI) (s : xS), s.1.Nodup → (xsF d f an m s l).1.Nodup
  | [], _, h => h
  | _ :: t, _, h => xsF_nodup d f an m t _ (putX_nodup h)
theorem belS_nodup (d : Int) (f : Fm) (an : Nat → Int) (m : Nat) (A B n : Int) : ∀ (k : Nat) (y : Int) (s : xS), s.1.Nodup → (belS d f an m A B n k y s).1.Nodup
  | 0, _, _, h => h
  | k + 1, y, s, h => belS_nodup d f an m A B n k (y + 1) _ (xsF_nodup d f an m _ s h)
/-- what is to be known of one solution -/
def okZ (d : Int) (f : Fm) (an : Nat → Int) (m : Nat) (z : zI) : Prop := bd62 (abk an m z) ∧ (-5 < d → bd62 (auZ d f (abk an m z)) ∧ bd62 (auZ d f (auZ d f (abk an m z))))
def ltK (a b : pI) : Prop := a.1 < b.1 ∨ (a.1 = b.1 ∧ a.2 < b.2)
/-- what is to be known of the solutions that are kept: their divisors and roots are got, and tell them apart -/
def kyP (f : Fm) (n : Int) (Lz : List zI) (Kf : zI → pI) : Prop := (∀ z, z ∈ Lz → ((-1152921504606846976 < z.1 ∧ z.1 < 1152921504606846976) ∧ -1152921504606846976 < z.2 ∧ z.2 < 1152921504606846976) ∧ (0 < Int.gcd z.1 z.2 ∧ Int.gcd z.1 z.2 ≤ 1000 ∧ 0 < n.tdiv ((Int.gcd z.1 z.2 : Nat) * (Int.gcd z.1 z.2 : Nat)) ∧ n.tdiv ((Int.gcd z.1 z.2 : Nat) * (Int.gcd z.1 z.2 : Nat)) ≤ 1000000) ∧ ∀ x y q s : Int, z.1 = (Int.gcd z.1 z.2 : Nat) * x → z.2 = (Int.gcd z.1 z.2 : Nat) * y → x * s - y * q = 1 → Kf z = (((Int.gcd z.1 z.2 : Nat) : Int), rootE f x y q s % (2 * n.tdiv ((Int.gcd z.1 z.2 : Nat) * (Int.gcd z.1 z.2 : Nat))))) ∧ ∀ z z', z ∈ Lz → z' ∈ Lz → Kf z = Kf z' → z = z'
def famZ (Kf : zI → pI) (z : zI) : Fam := ((Kf z).1, (Kf z).2, z.1, z.2)
/-- sorted by divisor and root -/
def ascK (Kf : zI → pI) (M : List zI) : Prop := ∀ (i j : Nat) (z z' : zI), i < j → M[i]? = some z → M[j]? = some z' → ltK (Kf z) (Kf z')
theorem ascK_nodup {Kf : zI → pI} : ∀ {M : List zI}, ascK Kf M → M.Nodup
  | [], _ => List.nodup_nil
  | z :: t, h => by
    refine List.nodup_cons.2 ⟨fun hz => ?_, ascK_nodup (M := t) (fun i j a b hij ha hb => h (i + 1) (j + 1) a b (by omega) ha hb)⟩
    obtain ⟨j, hj⟩ := List.getElem?_of_mem hz
    have := h 0 (j + 1) z z (by omega) rfl hj
    unfold ltK at this
    omega
theorem gcd_one_of {x y q s : Int} (h : x * s - y * q = 1) : Int.gcd x y = 1 := by
  have h1 := Int.gcd_dvd_left x y
  have h2 := Int.gcd_dvd_right x y
  have h3 : ((Int.gcd x y : Nat) : Int) ∣ 1 := by
    rw [← h]
    exact Int.dvd_sub (Int.dvd_mul_of_dvd_left h1) (Int.dvd_mul_of_dvd_left h2)
  have := Int.le_of_dvd (by decide) h3
  have h0 : Int.gcd x y ≠ 0 := by
    intro z
    rw [z] at h3
    have := Int.zero_dvd.1 h3
    omega
  omega
abbrev iBw (k : Nat) : Prop := k = 40 ∨ k = 48
abbrev jBw (k : Nat) : Prop := 50 ≤ k ∧ k ≤ 57
abbrev sBw (c : Nat) : Prop := (1433 ≤ c ∧ c ≤ 1438) ∨ c = 1440
/-- the solutions lie in their rows -/
def isXa (h : mj_H) (Lz : List zI) : Prop := ∀ i z, Lz[i]? = some z → hJ h 1437 i = jL z.1 ∧ hJ h 1438 i = jL z.2
theorem isXa.M {I J S : Nat → Prop} {h h' : mj_H} (f : FrM I J S h h') {Lz : List zI} (a : isXa h Lz) (h2 : ¬ S 1437 ∧ ¬ S 1438) : isXa h' Lz := fun i z hz => ⟨(f.J (by decide) h2.1 _).trans (a i z hz).1, (f.J (by decide) h2.2 _).trans (a i z hz).2⟩
abbrev l228 (n A B Y : Int) (x9 x10 x11 x12 x13 x14 x15 x16 x17 x18 x19 x20 x21 x22 x23 x24 : Option Value) : mj_Ls := [some (.ref 1412), some (.long (jL n)), none, some (.long (jL A)), none, some (.long (jL B)), none, some (.long (jL Y)), none, x9, x10, x11, x12, x13, x14, x15, x16, x17, x18, x19, x20, x21, x22, x23, x24]
abbrev m228 (n A B Y : Int) (c : Int32) (lk : pI) (i : Int32) (x15 x16 x17 x18 x19 x20 x21 x22 x23 x24 : Option Value) : mj_Ls := l228 n A B Y (some (.int c)) (some (.long (jL lk.1))) none (some (.long (jL lk.2))) none (some (.int i)) x15 x16 x17 x18 x19 x20 x21 x22 x23 x24
abbrev n228 (n A B Y : Int) (c : Int32) (lk : pI) (i b : Int32) (bk : pI) (j : Int32) (x21 x22 x23 x24 : Option Value) : mj_Ls := m228 n A B Y c lk i (some (.int b)) (some (.long (jL bk.1))) none (some (.long (jL bk.2))) none (some (.int j)) x21 x22 x23 x24
theorem rg8 {v : Int} (h : -1152921504606846976 < v ∧ v < 1152921504606846976) : rgD 8 v ∧ stR 8 v := by
  have e : pB (8 - 1) = 5192296858534827628530496329220096 := by decide
  unfold rgD stR
  rw [e]
  omega
theorem mbd {a b A B : Int} (ha : -A ≤ a ∧ a ≤ A) (hb : -B ≤ b ∧ b ≤ B) : -(A * B) ≤ a * b ∧ a * b ≤ A * B := by
  have h0 : 0 ≤ A := by omega
  have h1 : (a * b).natAbs ≤ A.natAbs * B.natAbs := by
    rw [Int.natAbs_mul]
    exact Nat.mul_le_mul (by omega) (by omega)
  have h2 : ((A.natAbs * B.natAbs : Nat) : Int) = A * B := by
    rw [Int.natCast_mul, Int.natAbs_of_nonneg h0, Int.natAbs_of_nonneg (by omega)]
  omega
def ivB (h h' : mj_H) (Lz M : List zI) (Kf : zI → pI) : Prop := isXa h' Lz ∧ isNf h' (M.map (famZ Kf)) ∧ isBo h' ∧ isOK h' ∧ hI h' 1412 48 = jI (8 : Nat) ∧ FrM iBw jBw sBw h h'
theorem okM {I J S : Nat → Prop} {h1 h2 : mj_H} (F : FrM I J S h1 h2) (hs : ¬ S 1440) (a : isOK h1) : isOK h2 := fun c hc => by
  obtain ⟨e, e1, e2, e3⟩ := a c hc
  exact ⟨e, e1, e2, (F.I (by decide) hs _).trans e3⟩
theorem boM {I J S : Nat → Prop} {h1 h2 : mj_H} (F : FrM I J S h1 h2) (j1 : ¬ J 54) (j2 : ¬ J 55) : isBo h1 → isBo h2 := by
  rintro ⟨b, ⟨b1, b2⟩, b3⟩
  exact ⟨b, ⟨(F.2.2.2 54 j1).trans b1, (F.2.2.2 55 j2).trans b2⟩, b3⟩
theorem upB {I J S : Nat → Prop} {h h1 h2 : mj_H} (F : FrM iBw jBw sBw h h1) (F2 : FrM I J S h1 h2) (h3 : ∀ k, I k → k = 40 ∨ k = 48) (h4 : ∀ k, J k → 50 ≤ k ∧ k ≤ 57) (h5 : ∀ c, S c → (1433 ≤ c ∧ c ≤ 1438) ∨ c = 1440) : FrM iBw jBw sBw h h2 := F.trans (F2.mono h3 h4 h5)
theorem ivB.q {h h1 h2 : mj_H} {Lz M : List zI} {Kf : zI → pI} (a : ivB h h1 Lz M Kf) (F : FrM noT jQs noT h1 h2) : ivB h h2 Lz M Kf := by
  obtain ⟨a1, a2, a3, a4, a5, a6⟩ := a
  exact ⟨a1.M F ⟨fun z => z, fun z => z⟩, a2.M F (fun z => z) (fun _ _ z => z), boM F (by omega) (by omega) a3, okM F (fun z => z) a4, (F.2.2.1 48 (fun z => z)).trans a5, upB a6 F (fun _ z => z.elim) (fun k z => by rcases z with z | z <;> omega) (fun _ z => z.elim)⟩
/-- the best so far -/
def bsS (Kf : zI → pI) (Lz : List zI) (lk : pI) (j : Nat) (b : Int) (bk : pI) : Prop := (b = -1 ∧ ∀ t z, t < j → Lz[t]? = some z → ¬ ltK lk (Kf z)) ∨ ∃ (p : Nat) (z : zI), b = (p : Int) ∧ p < j ∧ Lz[p]? = some z ∧ bk = Kf z ∧ ltK lk bk ∧ ∀ t z', t < j → Lz[t]? = some z' → ltK lk (Kf z') → ¬ ltK (Kf z') bk
theorem ltK_asym {a b : pI} (h : ltK a b) : ¬ ltK b a := by
  unfold ltK at *
  omega
theorem ltK_le {a b c : pI} (h : ¬ ltK a b) (h2 : ltK a c) : ltK b c := by
  unfold ltK at *
  omega
theorem ltK_nn {a b c : pI} (h : ¬ ltK a b) (h2 : ¬ ltK b c) : ¬ ltK a c := by
  unfold ltK at *
  omega
theorem bsS.sk {Kf : zI → pI} {Lz : List zI} {lk : pI} {j : Nat} {b : Int} {bk : pI} (a : bsS Kf Lz lk j b bk) {z : zI} (hz : Lz[j]? = some z) (h : ¬ ltK lk (Kf z) ∨ (0 ≤ b ∧ ltK bk (Kf z))) : bsS Kf Lz lk (j + 1) b bk := by
  rcases a with ⟨e, a⟩ | ⟨p, z0, e, hp, hpz, ek, hl, hm⟩
  · left
    refine ⟨e, fun t y ht hy => ?_⟩
    rcases Nat.lt_succ_iff_lt_or_eq.1 ht with q | q
    · exact a t y q hy
    · subst q
      rw [hz] at hy
      cases hy
      rcases h with h | h
      · exact h
      · omega
  · right
    refine ⟨p, z0, e, by omega, hpz, ek, hl, fun t y ht hy hly => ?_⟩
    rcases Nat.lt_succ_iff_lt_or_eq.1 ht with q | q
    · exact hm t y q hy hly
    · subst q
      rw [hz] at hy
      cases hy
      rcases h with h | h
      · exact absurd hly h
      · exact ltK_asym h.2
theorem bsS.tk {Kf : zI → pI} {Lz : List zI} {lk : pI} {j : Nat} {b : Int} {bk : pI} (a : bsS Kf Lz lk j b bk) {z : zI} (hz : Lz[j]? = some z) (h : ltK lk (Kf z)) (h2 : b < 0 ∨ ¬ ltK bk (Kf z)) : bsS Kf Lz lk (j + 1) ((j : Nat) : Int) (Kf z) := by
  right
  refine ⟨j, z, rfl, by omega, hz, rfl, h, fun t y ht hy hly => ?_⟩
  rcases Nat.lt_succ_iff_lt_or_eq.1 ht with q | q
  · rcases a with ⟨e, a⟩ | ⟨p, z0, e, hp, hpz, ek, hl, hm⟩
    · exact absurd hly (a t y q hy)
    · rcases h2 with h2 | h2
      · omega
      · exact ltK_nn (hm t y q hy hly) h2
  · subst q
    rw [hz] at hy
    cases hy
    unfold ltK
    omega
theorem gcd_red {z : zI} (h : 0 < Int.gcd z.1 z.2) : ∃ x y : Int, z.1 = (Int.gcd z.1 z.2 : Nat) * x ∧ z.2 = (Int.gcd z.1 z.2 : Nat) * y ∧ Int.gcd x y = 1 := by
  obtain ⟨x, hx⟩ := Int.gcd_dvd_left z.1 z.2
  obtain ⟨y, hy⟩ := Int.gcd_dvd_right z.1 z.2
  refine ⟨x, y, hx, hy, ?_⟩
  have := Int.gcd_mul_left (Int.gcd z.1 z.2 : Nat) x y
  rw [← hx, ← hy] at this
  simp only [Int.natAbs_natCast] at this
  have h7 : Int.gcd z.1 z.2 * 1 = Int.gcd z.1 z.2 * Int.gcd x y := by omega
  exact (Nat.eq_of_mul_eq_mul_left h h7).symm
theorem bel_nn {d A n Y y : Int} (hd : d < 0) (hA : 0 ≤ 4 * A * n) (hY : isWd ((4 * A * n).tdiv (-d)) Y) (h1 : -Y ≤ y) (h2 : y ≤ Y) : 0 ≤ 4 * A * n + d * y * y ∧ 4 * A * n + d * y * y ≤ 4 * A * n := by
  have hyy : y * y ≤ Y * Y := (mbd ⟨h1, h2⟩ ⟨h1, h2⟩).2
  have h0 := sqn y
  have e : d * y * y = -((-d) * (y * y)) := by rw [Int.neg_mul, Int.neg_neg, Int.mul_assoc]
  have h3 : (-d) * (y * y) ≤ (-d) * ((4 * A * n).tdiv (-d)) := Int.mul_le_mul_of_nonneg_left (by have := hY.2.1; omega) (by omega)
  have h4 := Int.mul_tdiv_add_tmod (4 * A * n) (-d)
  have h5 := Int.tmod_nonneg (-d) hA
  have h6 : 0 ≤ (-d) * (y * y) := Int.mul_nonneg (by omega) h0
  omega
abbrev p228 (n : Int) (x3 x4 x5 x6 x7 x8 x9 x10 x11 x12 x13 x14 x15 x16 x17 x18 x19 x20 x21 x22 x23 x24 : Option Value) : mj_Ls := [some (.ref 1412), some (.long (jL n)), none, x3, x4, x5, x6, x7, x8, x9, x10, x11, x12, x13, x14, x15, x16, x17, x18, x19, x20, x21, x22, x23, x24]
section
variable {d w : Int}
/-- FormHouseModel.below(J)V; cuts at [7, 31, 38, 45, 50, 56, 72, 74, 79, 87, 107, 112, 114, 128, 147, 167, 194, 215, 224, 235, 241, 246, 249, 254, 260, 263, 270, 273, 276, 279, 282, 289, 306, 308, 335, 337, 364, 396, 400, 404, 408, 414, 426, 438, 448, 452, 456] -/
def cl_228_10 : List mj_E := (438, true, .aload_n 0, 1, 0, 0, 0, 0, 0) ::
  (439, false, .lload 16, 2, 0, 0, 0, 0, 0) ::
  (441, false, .l2i, 1, 0, 0, 0, 0, 0) ::
  (442, false, .lload 18, 2, 0, 0, 0, 0, 0) ::
  (444, false, .l2i, 1, 0, 0, 0, 0, 0) ::
  (445, false, .invokevirtual 385, 3, 235, 2, 17, 0, 0) ::
  (448, true, .lload 16, 2, 0, 0, 0, 0, 0) ::
  (450, false, .lstore 10, 2, 0, 0, 0, 0, 0) ::
  (452, true, .lload 18, 2, 0, 0, 0, 0, 0) ::
  (454, false, .lstore 12, 2, 0, 0, 0, 0, 0) ::
  (456, true, .iinc 14 1, 3, 0, 0, 0, jI 1, 0) ::
  (459, false, .goto (-196), 3, 149, 0, 0, 0, 0) ::
  (462, false, .return_, 1, 0, 0, 0, 0, 0) ::
  []
def cl_228_9 : List mj_E := (390, false, .ifCond .le 6, 3, 218, 0, 0, 0, 0) ::
  (393, false, .goto 15, 3, 224, 0, 0, 0, 0) ::
  (396, true, .iload 20, 2, 0, 0, 0, 0, 0) ::
  (398, false, .istore 15, 2, 0, 0, 0, 0, 0) ::
  (400, true, .lload 21, 2, 0, 0, 0, 0, 0) ::
  (402, false, .lstore 16, 2, 0, 0, 0, 0, 0) ::
  (404, true, .lload 23, 2, 0, 0, 0, 0, 0) ::
  (406, false, .lstore 18, 2, 0, 0, 0, 0, 0) ::
  (408, true, .iinc 20 1, 3, 0, 0, 0, jI 1, 0) ::
  (411, false, .goto (-129), 3, 160, 0, 0, 0, 0) ::
  (414, true, .aload_n 0, 1, 0, 0, 0, 0, 0) ::
  (415, false, .iconst 2, 1, 0, 0, 0, jI 2, 0) ::
  (416, false, .aload_n 0, 1, 0, 0, 0, 0, 0) ::
  (417, false, .getfield 104, 3, 17, 45, 2, 0, 0) ::
  (420, false, .iload 15, 2, 0, 0, 0, 0, 0) ::
  (422, false, .laload, 1, 0, 0, 0, 0, 0) ::
  (423, false, .invokevirtual 348, 3, 233, 2, 17, 0, 0) ::
  (426, true, .aload_n 0, 1, 0, 0, 0, 0, 0) ::
  (427, false, .iconst 3, 1, 0, 0, 0, jI 3, 0) ::
  (428, false, .aload_n 0, 1, 0, 0, 0, 0, 0) ::
  (429, false, .getfield 107, 3, 17, 46, 2, 0, 0) ::
  (432, false, .iload 15, 2, 0, 0, 0, 0, 0) ::
  (434, false, .laload, 1, 0, 0, 0, 0, 0) ::
  (435, false, .invokevirtual 348, 3, 233, 2, 17, 0, 0) ::
  cl_228_10
def cl_228_8 : List mj_E := (341, false, .lcmp, 1, 0, 0, 0, 0, 0) ::
  (342, false, .ifCond .lt 66, 3, 224, 0, 0, 0, 0) ::
  (345, false, .lload 21, 2, 0, 0, 0, 0, 0) ::
  (347, false, .lload 10, 2, 0, 0, 0, 0, 0) ::
  (349, false, .lcmp, 1, 0, 0, 0, 0, 0) ::
  (350, false, .ifCond .ne 14, 3, 203, 0, 0, 0, 0) ::
  (353, false, .lload 23, 2, 0, 0, 0, 0, 0) ::
  (355, false, .lload 12, 2, 0, 0, 0, 0, 0) ::
  (357, false, .lcmp, 1, 0, 0, 0, 0, 0) ::
  (358, false, .ifCond .gt 6, 3, 203, 0, 0, 0, 0) ::
  (361, false, .goto 47, 3, 224, 0, 0, 0, 0) ::
  (364, true, .iload 15, 2, 0, 0, 0, 0, 0) ::
  (366, false, .ifCond .lt 30, 3, 218, 0, 0, 0, 0) ::
  (369, false, .lload 21, 2, 0, 0, 0, 0, 0) ::
  (371, false, .lload 16, 2, 0, 0, 0, 0, 0) ::
  (373, false, .lcmp, 1, 0, 0, 0, 0, 0) ::
  (374, false, .ifCond .gt 34, 3, 224, 0, 0, 0, 0) ::
  (377, false, .lload 21, 2, 0, 0, 0, 0, 0) ::
  (379, false, .lload 16, 2, 0, 0, 0, 0, 0) ::
  (381, false, .lcmp, 1, 0, 0, 0, 0, 0) ::
  (382, false, .ifCond .ne 14, 3, 218, 0, 0, 0, 0) ::
  (385, false, .lload 23, 2, 0, 0, 0, 0, 0) ::
  (387, false, .lload 18, 2, 0, 0, 0, 0, 0) ::
  (389, false, .lcmp, 1, 0, 0, 0, 0, 0) ::
  cl_228_9
def cl_228_7 : List mj_E := (297, false, .getfield 107, 3, 17, 46, 2, 0, 0) ::
  (300, false, .iload 20, 2, 0, 0, 0, 0, 0) ::
  (302, false, .laload, 1, 0, 0, 0, 0, 0) ::
  (303, false, .invokestatic 166, 3, 197, 2, 0, 0, 0) ::
  (306, true, .lstore 21, 2, 0, 0, 0, 0, 0) ::
  (308, true, .aload_n 0, 1, 0, 0, 0, 0, 0) ::
  (309, false, .aload_n 0, 1, 0, 0, 0, 0, 0) ::
  (310, false, .getfield 104, 3, 17, 45, 2, 0, 0) ::
  (313, false, .iload 20, 2, 0, 0, 0, 0, 0) ::
  (315, false, .laload, 1, 0, 0, 0, 0, 0) ::
  (316, false, .aload_n 0, 1, 0, 0, 0, 0, 0) ::
  (317, false, .getfield 107, 3, 17, 46, 2, 0, 0) ::
  (320, false, .iload 20, 2, 0, 0, 0, 0, 0) ::
  (322, false, .laload, 1, 0, 0, 0, 0, 0) ::
  (323, false, .lload 21, 2, 0, 0, 0, 0, 0) ::
  (325, false, .lload_n 1, 1, 0, 0, 0, 0, 0) ::
  (326, false, .lload 21, 2, 0, 0, 0, 0, 0) ::
  (328, false, .lload 21, 2, 0, 0, 0, 0, 0) ::
  (330, false, .lmul, 1, 0, 0, 0, 0, 0) ::
  (331, false, .ldiv, 1, 0, 0, 0, 0, 0) ::
  (332, false, .invokevirtual 415, 3, 231, 4, 17, 0, 0) ::
  (335, true, .lstore 23, 2, 0, 0, 0, 0, 0) ::
  (337, true, .lload 21, 2, 0, 0, 0, 0, 0) ::
  (339, false, .lload 10, 2, 0, 0, 0, 0, 0) ::
  cl_228_8
def cl_228_6 : List mj_E := (254, true, .aload_n 0, 1, 0, 0, 0, 0, 0) ::
  (255, false, .bipush 8, 2, 0, 0, 0, jI 8, 0) ::
  (257, false, .putfield 313, 3, 17, 48, 0, 0, 0) ::
  (260, true, .iconst 0, 1, 0, 0, 0, jI 0, 0) ::
  (261, false, .istore 14, 2, 0, 0, 0, 0, 0) ::
  (263, true, .iload 14, 2, 0, 0, 0, 0, 0) ::
  (265, false, .iload 9, 2, 0, 0, 0, 0, 0) ::
  (267, false, .if_icmp .ge 195, 3, 252, 0, 0, 0, 0) ::
  (270, true, .iconst (-1), 1, 0, 0, 0, jI (-1), 0) ::
  (271, false, .istore 15, 2, 0, 0, 0, 0, 0) ::
  (273, true, .lconst 0, 1, 0, 0, 0, 0, jL 0) ::
  (274, false, .lstore 16, 2, 0, 0, 0, 0, 0) ::
  (276, true, .lconst 0, 1, 0, 0, 0, 0, jL 0) ::
  (277, false, .lstore 18, 2, 0, 0, 0, 0, 0) ::
  (279, true, .iconst 0, 1, 0, 0, 0, jI 0, 0) ::
  (280, false, .istore 20, 2, 0, 0, 0, 0, 0) ::
  (282, true, .iload 20, 2, 0, 0, 0, 0, 0) ::
  (284, false, .iload 9, 2, 0, 0, 0, 0, 0) ::
  (286, false, .if_icmp .ge 128, 3, 226, 0, 0, 0, 0) ::
  (289, true, .aload_n 0, 1, 0, 0, 0, 0, 0) ::
  (290, false, .getfield 104, 3, 17, 45, 2, 0, 0) ::
  (293, false, .iload 20, 2, 0, 0, 0, 0, 0) ::
  (295, false, .laload, 1, 0, 0, 0, 0, 0) ::
  (296, false, .aload_n 0, 1, 0, 0, 0, 0, 0) ::
  cl_228_7
def cl_228_5 : List mj_E := (208, false, .lmul, 1, 0, 0, 0, 0, 0) ::
  (209, false, .ldiv, 1, 0, 0, 0, 0, 0) ::
  (210, false, .lload 9, 2, 0, 0, 0, 0, 0) ::
  (212, false, .invokevirtual 412, 3, 229, 2, 17, 0, 0) ::
  (215, true, .lload 9, 2, 0, 0, 0, 0, 0) ::
  (217, false, .lconst 1, 1, 0, 0, 0, 0, jL 1) ::
  (218, false, .ladd, 1, 0, 0, 0, 0, 0) ::
  (219, false, .lstore 9, 2, 0, 0, 0, 0, 0) ::
  (221, false, .goto (-142), 3, 43, 0, 0, 0, 0) ::
  (224, true, .aload_n 0, 1, 0, 0, 0, 0, 0) ::
  (225, false, .getfield 370, 3, 17, 40, 0, 0, 0) ::
  (228, false, .sipush 256, 3, 0, 0, 0, jI 256, 0) ::
  (231, false, .if_icmp .le 4, 3, 134, 0, 0, 0, 0) ::
  (234, false, .return_, 1, 0, 0, 0, 0, 0) ::
  (235, true, .aload_n 0, 1, 0, 0, 0, 0, 0) ::
  (236, false, .getfield 370, 3, 17, 40, 0, 0, 0) ::
  (239, false, .istore 9, 2, 0, 0, 0, 0, 0) ::
  (241, true, .aload_n 0, 1, 0, 0, 0, 0, 0) ::
  (242, false, .iconst 0, 1, 0, 0, 0, jI 0, 0) ::
  (243, false, .putfield 370, 3, 17, 40, 0, 0, 0) ::
  (246, true, .lconst 0, 1, 0, 0, 0, 0, jL 0) ::
  (247, false, .lstore 10, 2, 0, 0, 0, 0, 0) ::
  (249, true, .ldc2_w 15, 3, 0, 0, 0, 0, jL (-1)) ::
  (252, false, .lstore 12, 2, 0, 0, 0, 0, 0) ::
  cl_228_6
def cl_228_4 : List mj_E := (170, false, .lcmp, 1, 0, 0, 0, 0, 0) ::
  (171, false, .ifCond .le 44, 3, 124, 0, 0, 0, 0) ::
  (174, false, .lload 13, 2, 0, 0, 0, 0, 0) ::
  (176, false, .lneg, 1, 0, 0, 0, 0, 0) ::
  (177, false, .lload 5, 2, 0, 0, 0, 0, 0) ::
  (179, false, .lload 9, 2, 0, 0, 0, 0, 0) ::
  (181, false, .lmul, 1, 0, 0, 0, 0, 0) ::
  (182, false, .lsub, 1, 0, 0, 0, 0, 0) ::
  (183, false, .ldc2_w 130, 3, 0, 0, 0, 0, jL 2) ::
  (186, false, .lload_n 3, 1, 0, 0, 0, 0, 0) ::
  (187, false, .lmul, 1, 0, 0, 0, 0, 0) ::
  (188, false, .lrem, 1, 0, 0, 0, 0, 0) ::
  (189, false, .lconst 0, 1, 0, 0, 0, 0, jL 0) ::
  (190, false, .lcmp, 1, 0, 0, 0, 0, 0) ::
  (191, false, .ifCond .ne 24, 3, 124, 0, 0, 0, 0) ::
  (194, true, .aload_n 0, 1, 0, 0, 0, 0, 0) ::
  (195, false, .lload 13, 2, 0, 0, 0, 0, 0) ::
  (197, false, .lneg, 1, 0, 0, 0, 0, 0) ::
  (198, false, .lload 5, 2, 0, 0, 0, 0, 0) ::
  (200, false, .lload 9, 2, 0, 0, 0, 0, 0) ::
  (202, false, .lmul, 1, 0, 0, 0, 0, 0) ::
  (203, false, .lsub, 1, 0, 0, 0, 0, 0) ::
  (204, false, .ldc2_w 130, 3, 0, 0, 0, 0, jL 2) ::
  (207, false, .lload_n 3, 1, 0, 0, 0, 0, 0) ::
  cl_228_5
def cl_228_3 : List mj_E := (132, false, .lload 9, 2, 0, 0, 0, 0, 0) ::
  (134, false, .lmul, 1, 0, 0, 0, 0, 0) ::
  (135, false, .lsub, 1, 0, 0, 0, 0, 0) ::
  (136, false, .ldc2_w 130, 3, 0, 0, 0, 0, jL 2) ::
  (139, false, .lload_n 3, 1, 0, 0, 0, 0, 0) ::
  (140, false, .lmul, 1, 0, 0, 0, 0, 0) ::
  (141, false, .lrem, 1, 0, 0, 0, 0, 0) ::
  (142, false, .lconst 0, 1, 0, 0, 0, 0, jL 0) ::
  (143, false, .lcmp, 1, 0, 0, 0, 0, 0) ::
  (144, false, .ifCond .ne 23, 3, 94, 0, 0, 0, 0) ::
  (147, true, .aload_n 0, 1, 0, 0, 0, 0, 0) ::
  (148, false, .lload 13, 2, 0, 0, 0, 0, 0) ::
  (150, false, .lload 5, 2, 0, 0, 0, 0, 0) ::
  (152, false, .lload 9, 2, 0, 0, 0, 0, 0) ::
  (154, false, .lmul, 1, 0, 0, 0, 0, 0) ::
  (155, false, .lsub, 1, 0, 0, 0, 0, 0) ::
  (156, false, .ldc2_w 130, 3, 0, 0, 0, 0, jL 2) ::
  (159, false, .lload_n 3, 1, 0, 0, 0, 0, 0) ::
  (160, false, .lmul, 1, 0, 0, 0, 0, 0) ::
  (161, false, .ldiv, 1, 0, 0, 0, 0, 0) ::
  (162, false, .lload 9, 2, 0, 0, 0, 0, 0) ::
  (164, false, .invokevirtual 412, 3, 229, 2, 17, 0, 0) ::
  (167, true, .lload 13, 2, 0, 0, 0, 0, 0) ::
  (169, false, .lconst 0, 1, 0, 0, 0, 0, jL 0) ::
  cl_228_4
def cl_228_2 : List mj_E := (90, false, .lload_n 3, 1, 0, 0, 0, 0, 0) ::
  (91, false, .lmul, 1, 0, 0, 0, 0, 0) ::
  (92, false, .lload_n 1, 1, 0, 0, 0, 0, 0) ::
  (93, false, .lmul, 1, 0, 0, 0, 0, 0) ::
  (94, false, .aload_n 0, 1, 0, 0, 0, 0, 0) ::
  (95, false, .getfield 9, 3, 17, 1, 1, 0, 0) ::
  (98, false, .lload 9, 2, 0, 0, 0, 0, 0) ::
  (100, false, .lmul, 1, 0, 0, 0, 0, 0) ::
  (101, false, .lload 9, 2, 0, 0, 0, 0, 0) ::
  (103, false, .lmul, 1, 0, 0, 0, 0, 0) ::
  (104, false, .ladd, 1, 0, 0, 0, 0, 0) ::
  (105, false, .lstore 11, 2, 0, 0, 0, 0, 0) ::
  (107, true, .lload 11, 2, 0, 0, 0, 0, 0) ::
  (109, false, .invokestatic 159, 3, 192, 1, 0, 0, 0) ::
  (112, true, .lstore 13, 2, 0, 0, 0, 0, 0) ::
  (114, true, .lload 13, 2, 0, 0, 0, 0, 0) ::
  (116, false, .lload 13, 2, 0, 0, 0, 0, 0) ::
  (118, false, .lmul, 1, 0, 0, 0, 0, 0) ::
  (119, false, .lload 11, 2, 0, 0, 0, 0, 0) ::
  (121, false, .lcmp, 1, 0, 0, 0, 0, 0) ::
  (122, false, .ifCond .eq 6, 3, 70, 0, 0, 0, 0) ::
  (125, false, .goto 90, 3, 124, 0, 0, 0, 0) ::
  (128, true, .lload 13, 2, 0, 0, 0, 0, 0) ::
  (130, false, .lload 5, 2, 0, 0, 0, 0, 0) ::
  cl_228_3
def cl_228_1 : List mj_E := (46, false, .getfield 132, 3, 17, 50, 1, 0, 0) ::
  (49, false, .lstore_n 3, 1, 0, 0, 0, 0, 0) ::
  (50, true, .aload_n 0, 1, 0, 0, 0, 0, 0) ::
  (51, false, .getfield 135, 3, 17, 51, 1, 0, 0) ::
  (54, false, .lstore 5, 2, 0, 0, 0, 0, 0) ::
  (56, true, .ldc2_w 138, 3, 0, 0, 0, 0, jL 4) ::
  (59, false, .lload_n 3, 1, 0, 0, 0, 0, 0) ::
  (60, false, .lmul, 1, 0, 0, 0, 0, 0) ::
  (61, false, .lload_n 1, 1, 0, 0, 0, 0, 0) ::
  (62, false, .lmul, 1, 0, 0, 0, 0, 0) ::
  (63, false, .aload_n 0, 1, 0, 0, 0, 0, 0) ::
  (64, false, .getfield 9, 3, 17, 1, 1, 0, 0) ::
  (67, false, .lneg, 1, 0, 0, 0, 0, 0) ::
  (68, false, .ldiv, 1, 0, 0, 0, 0, 0) ::
  (69, false, .invokestatic 159, 3, 192, 1, 0, 0, 0) ::
  (72, true, .lstore 7, 2, 0, 0, 0, 0, 0) ::
  (74, true, .lload 7, 2, 0, 0, 0, 0, 0) ::
  (76, false, .lneg, 1, 0, 0, 0, 0, 0) ::
  (77, false, .lstore 9, 2, 0, 0, 0, 0, 0) ::
  (79, true, .lload 9, 2, 0, 0, 0, 0, 0) ::
  (81, false, .lload 7, 2, 0, 0, 0, 0, 0) ::
  (83, false, .lcmp, 1, 0, 0, 0, 0, 0) ::
  (84, false, .ifCond .gt 140, 3, 129, 0, 0, 0, 0) ::
  (87, true, .ldc2_w 138, 3, 0, 0, 0, 0, jL 4) ::
  cl_228_2
def cl_228_0 : List mj_E := (0, false, .lload_n 1, 1, 0, 0, 0, 0, 0) ::
  (1, false, .lconst 0, 1, 0, 0, 0, 0, jL 0) ::
  (2, false, .lcmp, 1, 0, 0, 0, 0, 0) ::
  (3, false, .ifCond .ge 4, 3, 5, 0, 0, 0, 0) ::
  (6, false, .return_, 1, 0, 0, 0, 0, 0) ::
  (7, true, .aload_n 0, 1, 0, 0, 0, 0, 0) ::
  (8, false, .aload_n 0, 1, 0, 0, 0, 0, 0) ::
  (9, false, .getfield 55, 3, 17, 20, 1, 0, 0) ::
  (12, false, .putfield 132, 3, 17, 50, 1, 0, 0) ::
  (15, false, .aload_n 0, 1, 0, 0, 0, 0, 0) ::
  (16, false, .aload_n 0, 1, 0, 0, 0, 0, 0) ::
  (17, false, .getfield 285, 3, 17, 21, 1, 0, 0) ::
  (20, false, .putfield 135, 3, 17, 51, 1, 0, 0) ::
  (23, false, .aload_n 0, 1, 0, 0, 0, 0, 0) ::
  (24, false, .aload_n 0, 1, 0, 0, 0, 0, 0) ::
  (25, false, .getfield 58, 3, 17, 22, 1, 0, 0) ::
  (28, false, .putfield 140, 3, 17, 52, 1, 0, 0) ::
  (31, true, .aload_n 0, 1, 0, 0, 0, 0, 0) ::
  (32, false, .invokevirtual 162, 3, 195, 0, 17, 0, 0) ::
  (35, false, .ifCond .ne 10, 3, 23, 0, 0, 0, 0) ::
  (38, true, .aload_n 0, 1, 0, 0, 0, 0, 0) ::
  (39, false, .invokevirtual 172, 3, 199, 0, 17, 0, 0) ::
  (42, false, .goto (-11), 3, 17, 0, 0, 0, 0) ::
  (45, true, .aload_n 0, 1, 0, 0, 0, 0, 0) ::
  cl_228_1
def cd_228 : List mj_E := cl_228_0
def cx_228 : mj_X := (0, [], [])
theorem tb_228 : mj_tab (mj_mt 228) cx_228 cd_228 mj_mh [(0, 0, 0), (0, 0, 0), (0, 0, 0), (0, 0, 0), (0, 0, 0), (0, 0, 0), (0, 0, 0), (7119, 0, 0), (7149, 0, 0), (0, 0, 0), (0, 0, 0), (7120, 0, 0), (7150, 0, 0), (0, 0, 0), (0, 0, 0), (7121, 0, 0), (7151, 0, 0), (0, 0, 0), (6229, 0, 0), (0, 0, 0), (0, 0, 0), (7003, 0, 0), (0, 0, 0), (0, 0, 0), (7149, 0, 0), (0, 0, 0), (0, 0, 0), (7150, 0, 0), (0, 0, 0), (6224, 0, 0), (0, 0, 0), (0, 0, 0), (0, 0, 0), (0, 0, 0), (0, 0, 0), (7100, 0, 0), (0, 0, 0), (0, 0, 0), (6214, 0, 0), (0, 0, 0), (0, 0, 0), (0, 0, 0), (0, 0, 0), (0, 0, 0), (0, 0, 0), (0, 0, 0), (0, 0, 0), (6224, 0, 0), (0, 0, 0), (0, 0, 0), (0, 0, 0), (0, 0, 0), (0, 0, 0), (7100, 0, 0), (0, 0, 0), (0, 0, 0), (0, 0, 0), (0, 0, 0), (0, 0, 0), (0, 0, 0), (0, 0, 0), (6214, 0, 0), (0, 0, 0), (0, 0, 0), (0, 0, 0), (0, 0, 0), (0, 0, 0), (0, 0, 0), (0, 0, 0), (0, 0, 0), (0, 0, 0), (0, 0, 0), (0, 0, 0), (0, 0, 0), (0, 0, 0), (6218, 0, 0), (0, 0, 0), (0, 0, 0), (0, 0, 0), (0, 0, 0), (0, 0, 0), (0, 0, 0), (0, 0, 0), (0, 0, 0), (0, 0, 0), (0, 0, 0), (0, 0, 0), (0, 0, 0), (6218, 0, 0), (0, 0, 0), (0, 0, 0), (0, 0, 0), (0, 0, 0), (8063, 0, 0), (0, 0, 0), (0, 0, 0), (0, 0, 0), (0, 0, 0), (0, 0, 0), (0, 0, 0), (0, 0, 0), (0, 0, 0), (0, 0, 0), (0, 0, 0), (6218, 0, 0), (0, 0, 0), (0, 0, 0), (0, 0, 0), (0, 0, 0), (0, 0, 0), (0, 0, 0), (0, 0, 0), (0, 0, 0), (0, 0, 0), (0, 0, 0), (0, 0, 0), (0, 0, 0), (0, 0, 0), (6218, 0, 0), (0, 0, 0), (0, 0, 0), (0, 0, 0), (0, 0, 0), (8063, 0, 0), (0, 0, 0), (0, 0, 0), (0, 0, 0), (0, 0, 0), (0, 0, 0), (0, 0, 0), (7139, 0, 0), (0, 0, 0), (0, 0, 0), (0, 0, 0), (0, 0, 0), (7139, 0, 0), (0, 0, 0), (0, 0, 0), (0, 0, 0), (7139, 0, 0), (0, 0, 0), (0, 0, 0), (6206, 0, 0), (0, 0, 0), (0, 0, 0), (0, 0, 0), (7147, 0, 0), (0, 0, 0), (0, 0, 0), (0, 0, 0), (0, 0, 0), (0, 0, 0), (0, 0, 0), (0, 0, 0), (0, 0, 0), (0, 0, 0), (0, 0, 0), (0, 0, 0), (0, 0, 0), (0, 0, 0), (0, 0, 0), (0, 0, 0), (0, 0, 0), (0, 0, 0), (7144, 0, 0), (0, 0, 0), (0, 0, 0), (0, 0, 0), (7145, 0, 0), (0, 0, 0), (0, 0, 0), (6236, 0, 0), (0, 0, 0), (0, 0, 0), (0, 0, 0), (7144, 0, 0), (0, 0, 0), (0, 0, 0), (0, 0, 0), (7145, 0, 0), (0, 0, 0), (0, 0, 0), (0, 0, 0), (0, 0, 0), (0, 0, 0), (0, 0, 0), (0, 0, 0), (0, 0, 0), (8072, 0, 0), (0, 0, 0), (0, 0, 0), (0, 0, 0), (0, 0, 0), (0, 0, 0), (0, 0, 0), (0, 0, 0), (0, 0, 0), (0, 0, 0), (0, 0, 0), (0, 0, 0), (0, 0, 0), (0, 0, 0), (0, 0, 0), (0, 0, 0), (0, 0, 0), (0, 0, 0), (0, 0, 0), (0, 0, 0), (0, 0, 0), (0, 0, 0), (0, 0, 0), (0, 0, 0), (0, 0, 0), (0, 0, 0), (0, 0, 0), (0, 0, 0), (0, 0, 0), (0, 0, 0), (0, 0, 0), (0, 0, 0), (0, 0, 0), (0, 0, 0), (0, 0, 0), (0, 0, 0), (0, 0, 0), (0, 0, 0), (0, 0, 0), (0, 0, 0), (0, 0, 0), (7144, 0, 0), (0, 0, 0), (0, 0, 0), (8080, 0, 0), (0, 0, 0), (0, 0, 0), (0, 0, 0), (7145, 0, 0), (0, 0, 0), (0, 0, 0), (8080, 0, 0), (0, 0, 0), (0, 0, 0), (0, 0, 0), (0, 0, 0), (0, 0, 0), (8088, 0, 0), (0, 0, 0), (0, 0, 0), (0, 0, 0), (0, 0, 0), (0, 0, 0), (0, 0, 0), (0, 0, 0)] = true := mj_tab_f (by decide +kernel)
set_option maxHeartbeats 8000000 in
theorem ct_228 (G : mj_G) {h : mj_H} (L : isLam h) (hw : isMw h d w) (hd : -1048576 ≤ d ∧ d < 0) (hwb : w = -1) {f : Fm} (hf : hJ h 1412 20 = jL f.1 ∧ hJ h 1412 21 = jL f.2.1 ∧ hJ h 1412 22 = jL f.2.2) (hfb : (-1073741824 ≤ f.1 ∧ f.1 ≤ 1073741824) ∧ (-1073741824 ≤ f.2.1 ∧ f.2.1 ≤ 1073741824) ∧ (-1073741824 ≤ f.2.2 ∧ f.2.2 ≤ 1073741824)) {m : Nat} {an : Nat → Int} (hm : m ≤ 200) (e24 : hI h 1412 24 = jI m) (han : ∀ i, i < m → hJ h 1423 i = jL (an i)) (ht : trm d w m f) (hpo : posT d w m f) {A B : Int} (hA : (itF d w m f).1 = A ∧ (itF d w m f).2.1 = B) (hAb : 0 < A ∧ A ≤ 1048576) (hBb : -1048576 ≤ B ∧ B ≤ 1048576) (hb : isBo h) (ho : isOK h) (hf0 : hI h 1412 40 = jI 0) {n : Int} (hn : n ≠ 0 ∧ -1000000 ≤ n ∧ n ≤ 1000000) {Y : Nat} (hY : 0 < n → isWd ((4 * A * n).tdiv (-d)) Y) (hY2 : Y ≤ 100000) (hok : 0 < n → ∀ y z, -(Y : Int) ≤ y → y ≤ Y → z ∈ candL d A B n y → okZ d f an m z) {Kf : zI → pI} (hky : 0 < n → kyP f n (belS d f an m A B n (2 * Y + 1) (-(Y : Int)) ([], 0)).1 Kf) : mj_Ct G (mj_mt 228) 0 0 [.ref 1412, .long (jL n)] h (fun oc h' => oc = .returned none ∧ isBo h' ∧ isOK h' ∧ (n < 0 → isNf h' []) ∧ (0 < n → (256 < (belS d f an m A B n (2 * Y + 1) (-(Y : Int)) ([], 0)).1.length + (belS d f an m A B n (2 * Y + 1) (-(Y : Int)) ([], 0)).2 → ∃ q : Nat, 256 < q ∧ q < 1000000 ∧ hI h' 1412 40 = jI q) ∧ ((belS d f an m A B n (2 * Y + 1) (-(Y : Int)) ([], 0)).1.length + (belS d f an m A B n (2 * Y + 1) (-(Y : Int)) ([], 0)).2 ≤ 256 → ∃ M, ascK Kf M ∧ (∀ z, z ∈ M ↔ z ∈ (belS d f an m A B n (2 * Y + 1) (-(Y : Int)) ([], 0)).1) ∧ isNf h' (M.map (famZ Kf)))) ∧ FrM iBw jBw sBw h h') := by
  obtain ⟨s9, hs9⟩ : ∃ s9, s9 = belS d f an m A B n (2 * Y + 1) (-(Y : Int)) ([], 0) := ⟨_, rfl⟩
  rw [← hs9] at hky ⊢
  have hnd9 : s9.1.Nodup := by
    rw [hs9]
    exact belS_nodup _ _ _ _ _ _ _ _ _ _ List.nodup_nil
  have hFf : ∀ {h' : mj_H}, FrM iBw jBw sBw h h' → (hJ h' 1412 20 = jL f.1 ∧ hJ h' 1412 21 = jL f.2.1 ∧ hJ h' 1412 22 = jL f.2.2) ∧ isMw h' d w ∧ hI h' 1412 24 = jI m ∧ ∀ i, i < m → hJ h' 1423 i = jL (an i) := fun F => ⟨⟨(F.2.2.2 20 (by omega)).trans hf.1, (F.2.2.2 21 (by omega)).trans hf.2.1, (F.2.2.2 22 (by omega)).trans hf.2.2⟩, hw.M F (by omega) (by omega), (F.2.2.1 24 (by omega)).trans e24, fun i hi => (F.J (by decide) (by omega) _).trans (han i hi)⟩
  refine mj_Ct_of mj_ok tb_228 rfl rfl (Nat.le_of_ble_eq_true rfl) (fun Run hR => ?_)
  -- the solutions are sorted
  have sorted : 0 < n → s9.1.length + s9.2 ≤ 256 → ∀ (h' : mj_H) (x9 x10 x11 x12 x13 x14 x15 x16 x17 x18 x19 x20 x21 x22 x23 x24 : Option Value), isXs h' s9 → isBo h' → isOK h' → FrM iBw jBw sBw h h' → Run 235 (l228 n A B Y x9 x10 x11 x12 x13 x14 x15 x16 x17 x18 x19 x20 x21 x22 x23 x24) [] h' (0, 0) := by
    intro hn0 hle
    obtain ⟨hk1, hk2⟩ := hky hn0
    obtain ⟨Lz, hLz⟩ : ∃ Lz, Lz = s9.1 := ⟨_, rfl⟩
    rw [← hLz] at hk1 hk2 hnd9 hle
    have hll : Lz.length ≤ 256 := by omega
    have nat : ∀ {k : Nat}, k < 40960 → (jI (k : Int)).toNatClampNeg = k := by
      intro k hk
      rw [jI_nat (by omega) (by omega), Int.toNat_natCast]
    have key : ∀ {z : zI}, z ∈ Lz → 0 < (Kf z).1 ∧ (Kf z).1 ≤ 1000 ∧ 0 ≤ (Kf z).2 ∧ (Kf z).2 < 2000000 := by
      intro z hz
      obtain ⟨-, ⟨g1, g2, g3, g4⟩, hq⟩ := hk1 z hz
      obtain ⟨x, y, hx, hy, hxy⟩ := gcd_red g1
      obtain ⟨a, b, hab⟩ := bez1 hxy
      have hab2 : x * a - y * (-b) = 1 := by
        rw [Int.mul_neg, Int.mul_comm x, Int.mul_comm y]
        omega
      rw [hq x y (-b) a hx hy hab2]
      have h1 := Int.emod_nonneg (rootE f x y (-b) a) (show 2 * n.tdiv ((Int.gcd z.1 z.2 : Nat) * (Int.gcd z.1 z.2 : Nat)) ≠ 0 by omega)
      have h2 := Int.emod_lt_of_pos (rootE f x y (-b) a) (show 0 < 2 * n.tdiv ((Int.gcd z.1 z.2 : Nat) * (Int.gcd z.1 z.2 : Nat)) by omega)
      simp only
      omega
    have r263 : ∀ (q i : Nat) (M : List zI) (lk : pI) (iI : Int32) (h' : mj_H) (x15 x16 x17 x18 x19 x20 x21 x22 x23 x24 : Option Value), i + q = Lz.length → M.length = i → (∀ z, z ∈ M → z ∈ Lz ∧ ¬ ltK lk (Kf z)) → ascK Kf M → (∀ z, z ∈ Lz → z ∈ M ∨ ltK lk (Kf z)) → (0 ≤ lk.1 ∧ lk.1 ≤ 1000 ∧ -1 ≤ lk.2 ∧ lk.2 < 2000000) → ivB h h' Lz M Kf → iI = jI i → Run 263 (m228 n A B Y (jI Lz.length) lk iI x15 x16 x17 x18 x19 x20 x21 x22 x23 x24) [] h' (0, 0) := by
      intro q
      induction q with
      | zero =>
        rintro i M lk iI h' x15 x16 x17 x18 x19 x20 x21 x22 x23 x24 hq hM hsub has hall hlk iv rfl
        obtain ⟨v1, v2, v3, v4, v5, v6⟩ := iv
        refine hR 60 149 _ _ _ _ _ _ rfl ?_
        refine ⟨fun c => ⟨rfl, v3, v4, fun z => absurd z (by omega), fun _ => ⟨fun z => absurd z (by rw [← hLz]; omega), fun _ => ⟨M, has, fun z => ⟨fun hz => hLz ▸ (hsub z hz).1, fun hz => ?_⟩, v2⟩⟩, v6⟩, fun c => ?_⟩
        · rw [← hLz] at hz
          refine Classical.byContradiction fun hno => ?_
          have := nodup_sub (z :: M) Lz (List.nodup_cons.2 ⟨hno, ascK_nodup has⟩) (fun y hy => by
            rcases List.mem_cons.1 hy with e | e
            · rw [e]
              exact hz
            · exact (hsub y e).1)
          simp only [List.length_cons] at this
          omega
        · simp (disch := omega) only [mj_lcm, jI_lt, jI_le, jI_eq, jL_lt, jL_le, jL_eq, jI_lt0, jI_0le, jI_0lt, jI_le0, jI_eq0, jL_eq0, jI_L, jI_add, jI_sub, jI_mul, jI_neg, jL_add, jL_sub, jL_mul, jL_neg, jL_I, jI_div, jI_mod, jL_div, jL_mod] at c
          omega
      | succ q ih =>
        rintro i M lk iI h' x15 x16 x17 x18 x19 x20 x21 x22 x23 x24 hq hM hsub has hall hlk iv rfl
        obtain ⟨t, ht, htM⟩ : ∃ z, z ∈ Lz ∧ ¬ z ∈ M := by
          refine Classical.byContradiction fun hno => ?_
          have := nodup_sub Lz M hnd9 (fun z hz => Classical.byContradiction fun hz2 => hno ⟨z, hz, hz2⟩)
          omega
        have r456 : ∀ (z : zI) (bI jJ : Int32) (h3 : mj_H) (x21 x22 x23 x24 : Option Value), z ∈ Lz → ltK lk (Kf z) → (∀ y, y ∈ Lz → ltK lk (Kf y) → ¬ ltK (Kf y) (Kf z)) → ivB h h3 Lz (M ++ [z]) Kf → Run 456 (n228 n A B Y (jI Lz.length) (Kf z) (jI i) bI (Kf z) jJ x21 x22 x23 x24) [] h3 (0, 0) := by
          intro z bI jJ h3 x21 x22 x23 x24 hz hlt hmin iv3
          refine hR 60 250 _ _ _ _ _ _ rfl ?_
          have hkz := key hz
          refine ih (i + 1) (M ++ [z]) (Kf z) _ h3 _ _ _ _ _ _ _ _ _ _ (by omega) (by rw [List.length_append, hM]; rfl) (fun y hy => ?_) (fun a b y y' hab hy hy' => ?_) (fun y hy => ?_) (by omega) iv3 (by rw [jI_add]; rfl)
          · rcases List.mem_append.1 hy with e | e
            · exact ⟨(hsub y e).1, ltK_asym (ltK_le (hsub y e).2 hlt)⟩
            · rw [List.mem_singleton.1 e]
              exact ⟨hz, fun w => ltK_asym w w⟩
          · have hb := lt_of_some hy'
            simp only [List.length_append, List.length_cons, List.length_nil] at hb
            by_cases e : b = M.length
            · subst e
              rw [List.getElem?_append_right (Nat.le_refl _), Nat.sub_self] at hy'
              have e9 : some z = some y' := hy'
              rw [← Option.some.inj e9]
              rw [List.getElem?_append_left hab] at hy
              exact ltK_le (hsub y (List.mem_of_getElem? hy)).2 hlt
            · rw [List.getElem?_append_left (by omega)] at hy hy'
              exact has a b y y' hab hy hy'
          · rcases hall y hy with e | e
            · exact Or.inl (List.mem_append_left _ e)
            · by_cases e2 : ltK (Kf z) (Kf y)
              · exact Or.inr e2
              · left
                have e3 : Kf y = Kf z := by
                  have e4 := hmin y hy e
                  unfold ltK at e2 e4
                  refine Prod.ext ?_ ?_ <;> omega
                rw [hk2 y z hy hz e3]
                exact List.mem_append_right _ (List.mem_singleton.2 rfl)
        have r448 : ∀ (z : zI) (bI jJ : Int32) (h3 : mj_H) (x21 x22 x23 x24 : Option Value), z ∈ Lz → ltK lk (Kf z) → (∀ y, y ∈ Lz → ltK lk (Kf y) → ¬ ltK (Kf y) (Kf z)) → ivB h h3 Lz (M ++ [z]) Kf → Run 448 (n228 n A B Y (jI Lz.length) lk (jI i) bI (Kf z) jJ x21 x22 x23 x24) [] h3 (0, 0) := by
          intro z bI jJ h3 x21 x22 x23 x24 hz hlt hmin iv3
          have r452 : Run 452 (n228 n A B Y (jI Lz.length) ((Kf z).1, lk.2) (jI i) bI (Kf z) jJ x21 x22 x23 x24) [] h3 (0, 0) := by
            refine hR 60 248 _ _ _ _ _ _ rfl ?_
            exact r456 z _ _ h3 _ _ _ _ hz hlt hmin iv3
          refine hR 60 246 _ _ _ _ _ _ rfl ?_
          exact r452
        have r414 : ∀ (b : Int) (bk : pI) (bI jJ : Int32) (h3 : mj_H) (x21 x22 x23 x24 : Option Value), bsS Kf Lz lk Lz.length b bk → ivB h h3 Lz M Kf → bI = jI b → Run 414 (n228 n A B Y (jI Lz.length) lk (jI i) bI bk jJ x21 x22 x23 x24) [] h3 (0, 0) := by
          rintro b bk bI jJ h3 x21 x22 x23 x24 hb iv3 rfl
          rcases hb with ⟨-, hb⟩ | ⟨p, z, rfl, hp, hpz, rfl, hlt, hmin⟩
          · obtain ⟨j, hj⟩ := List.getElem?_of_mem ht
            rcases hall t ht with e | e
            · exact absurd e htM
            · exact absurd e (hb j t (lt_of_some hj) hj)
          · have hz : z ∈ Lz := List.mem_of_getElem? hpz
            have hmin2 : ∀ y, y ∈ Lz → ltK lk (Kf y) → ¬ ltK (Kf y) (Kf z) := fun y hy hy2 => by
              obtain ⟨j, hj⟩ := List.getElem?_of_mem hy
              exact hmin j y (lt_of_some hj) hj hy2
            obtain ⟨⟨zb1, zb2⟩, -, -⟩ := hk1 z hz
            have vin : ∀ {N : Nat}, N = 256 → vp_in (jI (p : Int)) N := by
              rintro N rfl
              exact jI_in (by omega) (by omega) (by omega)
            obtain ⟨v1, v2, v3, v4, v5, v6⟩ := iv3
            have L3 := v6.lay L
            have hdg : isDg h3 8 := ⟨v5, by omega, by omega⟩
            have c2 := ct_233 G L3.Md (i := 2) (n := 8) (by omega) hdg (v := z.1) (by omega) (by omega)
            have e1 : hJ h3 1437 (jI (p : Int)).toNatClampNeg = jL z.1 := by
              rw [nat (by omega)]
              exact (v1 p z hpz).1
            rw [← e1] at c2
            refine hR 60 226 _ _ _ _ _ _ rfl ?_
            refine ⟨L3.K 1412 rfl, _, L3.R 1412 45 _ rfl, L3.K 1437 rfl, vin (L3.N 1436 rfl), L3.K 1412 rfl, jcallP c2 ?_⟩
            rintro o h4 ⟨rfl, d4, F4⟩
            have M4 := F4.toM
            have w1 := v1.M M4 ⟨by decide, by decide⟩
            have w2 := v2.M M4 (by decide) (fun x hx q => by omega)
            have w3 := boM M4 (fun q => q) (fun q => q) v3
            have w4 := F4.ok d4 v4
            have w5 := F4.dg hdg
            have w6 := upB v6 M4 (fun _ q => Or.inr q) (fun _ q => q.elim) (fun _ q => Or.inr q)
            have L4 := w6.lay L
            have c3 := ct_233 G L4.Md (i := 3) (n := 8) (by omega) w5 (v := z.2) (by omega) (by omega)
            have e2 : hJ h4 1438 (jI (p : Int)).toNatClampNeg = jL z.2 := by
              rw [nat (by omega)]
              exact (w1 p z hpz).2
            rw [← e2] at c3
            refine hR 60 233 _ _ _ _ _ _ rfl ?_
            refine ⟨L4.K 1412 rfl, _, L4.R 1412 46 _ rfl, L4.K 1438 rfl, vin (L4.N 1437 rfl), L4.K 1412 rfl, jcallP c3 ?_⟩
            rintro o h5 ⟨rfl, d5, F5⟩
            have M5 := F5.toM
            have u1 := w1.M M5 ⟨by decide, by decide⟩
            have u2 := w2.M M5 (by decide) (fun x hx q => by omega)
            have u3 := boM M5 (fun q => q) (fun q => q) w3
            have u4 := F5.ok d5 w4
            have u5 := F5.dg w5
            have u6 := upB w6 M5 (fun _ q => Or.inr q) (fun _ q => q.elim) (fun _ q => Or.inr q)
            have L5 := u6.lay L
            have d4' : isD h5 2 8 z.1 := fun k hk => (F5.2 _ (by omega)).trans (d4 k hk)
            obtain ⟨a, a1, a2⟩ := row_ex u4 (i := 0) (by omega) (show 0 < 8 by omega) (by omega)
            obtain ⟨b, b1, b2⟩ := row_ex u4 (i := 1) (by omega) (show 0 < 8 by omega) (by omega)
            have hS : isS h5 8 (fun i => if i = 0 then a else if i = 1 then b else if i = 2 then z.1 else z.2) := by
              refine ⟨u5, u4, fun i hi => ?_⟩
              rcases (show i = 0 ∨ i = 1 ∨ i = 2 ∨ i = 3 by omega) with e | e | e | e <;> subst e
              · exact ⟨a1, a2⟩
              · exact ⟨b1, b2⟩
              · exact ⟨d4', (rg8 zb1).1⟩
              · exact ⟨d5, (rg8 zb2).1⟩
            have c5 := ct_235 G L5 hS (rg8 zb1).2 (rg8 zb2).2 u2 (by rw [List.length_map]; omega) (g := (Kf z).1) (b := (Kf z).2)
            rw [← jL_I (Kf z).1, ← jL_I (Kf z).2] at c5
            refine hR 60 240 _ _ _ _ _ _ rfl ?_
            refine ⟨L5.K 1412 rfl, jcallP c5 ?_⟩
            rintro o h6 ⟨rfl, n6, o6, F6⟩
            refine r448 z _ _ h6 _ _ _ _ hz hlt hmin2 ⟨u1.M F6 ⟨by decide, by decide⟩, ?_, boM F6 (fun q => q) (fun q => q) u3, o6, (F6.2.2.1 48 (by decide)).trans u5.1, upB u6 F6 (fun _ q => Or.inl q) (fun _ q => q.elim) (fun c q => by rcases q with q | q <;> omega)⟩
            rw [List.map_append]
            exact n6
        have r282 : ∀ (p j : Nat) (b : Int) (bk : pI) (bI jJ : Int32) (h3 : mj_H) (x21 x22 x23 x24 : Option Value), j + p = Lz.length → bsS Kf Lz lk j b bk → (0 ≤ bk.1 ∧ bk.1 ≤ 1000 ∧ 0 ≤ bk.2 ∧ bk.2 < 2000000) → ivB h h3 Lz M Kf → bI = jI b → jJ = jI j → Run 282 (n228 n A B Y (jI Lz.length) lk (jI i) bI bk jJ x21 x22 x23 x24) [] h3 (0, 0) := by
          intro p
          induction p with
          | zero =>
            rintro j b bk bI jJ h3 x21 x22 x23 x24 hj hb hbk iv3 rfl rfl
            have ej : j = Lz.length := by omega
            refine hR 60 160 _ _ _ _ _ _ rfl ?_
            refine ⟨fun c => ?_, fun c => ?_⟩
            · rw [ej] at hb
              exact r414 b bk _ _ h3 _ _ _ _ hb iv3 rfl
            · simp (disch := omega) only [mj_lcm, jI_lt, jI_le, jI_eq, jL_lt, jL_le, jL_eq, jI_lt0, jI_0le, jI_0lt, jI_le0, jI_eq0, jL_eq0, jI_L, jI_add, jI_sub, jI_mul, jI_neg, jL_add, jL_sub, jL_mul, jL_neg, jL_I, jI_div, jI_mod, jL_div, jL_mod] at c
              omega
          | succ p ihp =>
            rintro j b bk bI jJ h3 x21 x22 x23 x24 hj hb hbk iv3 rfl rfl
            obtain ⟨z, hjz⟩ : ∃ z, Lz[j]? = some z := ⟨Lz[j]'(by omega), List.getElem?_eq_getElem (by omega)⟩
            have hz := List.mem_of_getElem? hjz
            obtain ⟨⟨zb1, zb2⟩, ⟨g1, g2, g3, g4⟩, hq⟩ := hk1 z hz
            have kb := key hz
            have hsk := fun e => hb.sk hjz e
            have htk := fun e => hb.tk hjz e
            obtain ⟨k, hk⟩ : ∃ k, k = Kf z := ⟨_, rfl⟩
            rw [← hk] at kb hq hsk htk
            have hbb : -1 ≤ b ∧ b < 256 := by
              rcases hb with ⟨e, -⟩ | ⟨p', z', e, hp, -⟩ <;> omega
            have r408 : ∀ (b : Int) (bk : pI) (bI : Int32) (h4 : mj_H) (x21 x22 x23 x24 : Option Value), bsS Kf Lz lk (j + 1) b bk → (0 ≤ bk.1 ∧ bk.1 ≤ 1000 ∧ 0 ≤ bk.2 ∧ bk.2 < 2000000) → ivB h h4 Lz M Kf → bI = jI b → Run 408 (n228 n A B Y (jI Lz.length) lk (jI i) bI bk (jI j) x21 x22 x23 x24) [] h4 (0, 0) := by
              rintro b bk bI h4 x21 x22 x23 x24 hb hbk iv4 rfl
              refine hR 60 224 _ _ _ _ _ _ rfl ?_
              exact ihp (j + 1) b bk _ _ h4 _ _ _ _ (by omega) hb hbk iv4 rfl (by rw [jI_add]; rfl)
            have r396 : ∀ (h4 : mj_H), ltK lk k → (b < 0 ∨ ¬ ltK bk k) → ivB h h4 Lz M Kf → Run 396 (n228 n A B Y (jI Lz.length) lk (jI i) (jI b) bk (jI j) (some (.long (jL k.1))) none (some (.long (jL k.2))) none) [] h4 (0, 0) := by
              intro h4 h1 h2 iv4
              have h9 := htk h1 h2
              have r404 : Run 404 (n228 n A B Y (jI Lz.length) lk (jI i) (jI j) (k.1, bk.2) (jI j) (some (.long (jL k.1))) none (some (.long (jL k.2))) none) [] h4 (0, 0) := by
                refine hR 60 222 _ _ _ _ _ _ rfl ?_
                exact r408 (j : Nat) k _ h4 _ _ _ _ h9 (by omega) iv4 rfl
              have r400 : Run 400 (n228 n A B Y (jI Lz.length) lk (jI i) (jI j) bk (jI j) (some (.long (jL k.1))) none (some (.long (jL k.2))) none) [] h4 (0, 0) := by
                refine hR 60 220 _ _ _ _ _ _ rfl ?_
                exact r404
              refine hR 60 218 _ _ _ _ _ _ rfl ?_
              exact r400
            have r364 : ∀ (h4 : mj_H), ltK lk k → ivB h h4 Lz M Kf → Run 364 (n228 n A B Y (jI Lz.length) lk (jI i) (jI b) bk (jI j) (some (.long (jL k.1))) none (some (.long (jL k.2))) none) [] h4 (0, 0) := by
              intro h4 h1 iv4
              refine hR 60 203 _ _ _ _ _ _ rfl ?_
              refine ⟨fun c => ?_, fun c => ⟨fun c2 => ?_, fun c2 => ⟨fun c3 => ⟨fun c4 => ?_, fun c4 => ?_⟩, fun c3 => ?_⟩⟩⟩
              · simp (disch := omega) only [mj_lcm, jI_lt, jI_le, jI_eq, jL_lt, jL_le, jL_eq, jI_lt0, jI_0le, jI_0lt, jI_le0, jI_eq0, jL_eq0, jI_L, jI_add, jI_sub, jI_mul, jI_neg, jL_add, jL_sub, jL_mul, jL_neg, jL_I, jI_div, jI_mod, jL_div, jL_mod] at c
                exact r396 h4 h1 (Or.inl c) iv4
              · simp (disch := omega) only [mj_lcm, jI_lt, jI_le, jI_eq, jL_lt, jL_le, jL_eq, jI_lt0, jI_0le, jI_0lt, jI_le0, jI_eq0, jL_eq0, jI_L, jI_add, jI_sub, jI_mul, jI_neg, jL_add, jL_sub, jL_mul, jL_neg, jL_I, jI_div, jI_mod, jL_div, jL_mod] at c c2
                exact r408 b bk _ h4 _ _ _ _ (hsk (Or.inr ⟨by omega, by unfold ltK; omega⟩)) hbk iv4 rfl
              · simp (disch := omega) only [mj_lcm, jI_lt, jI_le, jI_eq, jL_lt, jL_le, jL_eq, jI_lt0, jI_0le, jI_0lt, jI_le0, jI_eq0, jL_eq0, jI_L, jI_add, jI_sub, jI_mul, jI_neg, jL_add, jL_sub, jL_mul, jL_neg, jL_I, jI_div, jI_mod, jL_div, jL_mod] at c c2 c3 c4
                exact r396 h4 h1 (Or.inr (by unfold ltK; omega)) iv4
              · simp (disch := omega) only [mj_lcm, jI_lt, jI_le, jI_eq, jL_lt, jL_le, jL_eq, jI_lt0, jI_0le, jI_0lt, jI_le0, jI_eq0, jL_eq0, jI_L, jI_add, jI_sub, jI_mul, jI_neg, jL_add, jL_sub, jL_mul, jL_neg, jL_I, jI_div, jI_mod, jL_div, jL_mod] at c c2 c3 c4
                exact r408 b bk _ h4 _ _ _ _ (hsk (Or.inr ⟨by omega, by unfold ltK; omega⟩)) hbk iv4 rfl
              · simp (disch := omega) only [mj_lcm, jI_lt, jI_le, jI_eq, jL_lt, jL_le, jL_eq, jI_lt0, jI_0le, jI_0lt, jI_le0, jI_eq0, jL_eq0, jI_L, jI_add, jI_sub, jI_mul, jI_neg, jL_add, jL_sub, jL_mul, jL_neg, jL_I, jI_div, jI_mod, jL_div, jL_mod] at c c2 c3
                exact r396 h4 h1 (Or.inr (by unfold ltK; omega)) iv4
            have r337 : ∀ (h4 : mj_H), ivB h h4 Lz M Kf → Run 337 (n228 n A B Y (jI Lz.length) lk (jI i) (jI b) bk (jI j) (some (.long (jL k.1))) none (some (.long (jL k.2))) none) [] h4 (0, 0) := by
              intro h4 iv4
              refine hR 60 190 _ _ _ _ _ _ rfl ?_
              refine ⟨fun c => ?_, fun c => ⟨fun c2 => ⟨fun c3 => ?_, fun c3 => ?_⟩, fun c2 => ?_⟩⟩
              · simp (disch := omega) only [mj_lcm, jI_lt, jI_le, jI_eq, jL_lt, jL_le, jL_eq, jI_lt0, jI_0le, jI_0lt, jI_le0, jI_eq0, jL_eq0, jI_L, jI_add, jI_sub, jI_mul, jI_neg, jL_add, jL_sub, jL_mul, jL_neg, jL_I, jI_div, jI_mod, jL_div, jL_mod] at c
                exact r408 b bk _ h4 _ _ _ _ (hsk (Or.inl (by unfold ltK; omega))) hbk iv4 rfl
              · simp (disch := omega) only [mj_lcm, jI_lt, jI_le, jI_eq, jL_lt, jL_le, jL_eq, jI_lt0, jI_0le, jI_0lt, jI_le0, jI_eq0, jL_eq0, jI_L, jI_add, jI_sub, jI_mul, jI_neg, jL_add, jL_sub, jL_mul, jL_neg, jL_I, jI_div, jI_mod, jL_div, jL_mod] at c c2 c3
                exact r364 h4 (by unfold ltK; omega) iv4
              · simp (disch := omega) only [mj_lcm, jI_lt, jI_le, jI_eq, jL_lt, jL_le, jL_eq, jI_lt0, jI_0le, jI_0lt, jI_le0, jI_eq0, jL_eq0, jI_L, jI_add, jI_sub, jI_mul, jI_neg, jL_add, jL_sub, jL_mul, jL_neg, jL_I, jI_div, jI_mod, jL_div, jL_mod] at c c2 c3
                exact r408 b bk _ h4 _ _ _ _ (hsk (Or.inl (by unfold ltK; omega))) hbk iv4 rfl
              · simp (disch := omega) only [mj_lcm, jI_lt, jI_le, jI_eq, jL_lt, jL_le, jL_eq, jI_lt0, jI_0le, jI_0lt, jI_le0, jI_eq0, jL_eq0, jI_L, jI_add, jI_sub, jI_mul, jI_neg, jL_add, jL_sub, jL_mul, jL_neg, jL_I, jI_div, jI_mod, jL_div, jL_mod] at c c2
                exact r364 h4 (by unfold ltK; omega) iv4
            have r335 : ∀ (h4 : mj_H) (x23 x24 : Option Value) (kL : Int64), kL = jL k.2 → ivB h h4 Lz M Kf → Run 335 (n228 n A B Y (jI Lz.length) lk (jI i) (jI b) bk (jI j) (some (.long (jL k.1))) none x23 x24) [.long kL] h4 (0, 0) := by
              rintro h4 x23 x24 kL rfl iv4
              refine hR 60 189 _ _ _ _ _ _ rfl ?_
              exact r337 h4 iv4
            obtain ⟨v1, v2, v3, v4, v5, v6⟩ := id iv3
            have L3 := v6.lay L
            have vin : ∀ {N : Nat}, N = 256 → vp_in (jI (j : Int)) N := by
              rintro N rfl
              exact jI_in (by omega) (by omega) (by omega)
            have e1 : hJ h3 1437 (jI (j : Int)).toNatClampNeg = jL z.1 := by
              rw [nat (by omega)]
              exact (v1 j z hjz).1
            have e2 : hJ h3 1438 (jI (j : Int)).toNatClampNeg = jL z.2 := by
              rw [nat (by omega)]
              exact (v1 j z hjz).2
            obtain ⟨x, y, hx, hy, hxy⟩ := gcd_red g1
            have hk1' : k.1 = (Int.gcd z.1 z.2 : Nat) := by
              obtain ⟨a, b, hab⟩ := bez1 hxy
              have hab2 : x * a - y * (-b) = 1 := by
                rw [Int.mul_neg, Int.mul_comm x, Int.mul_comm y]
                omega
              rw [hq x y (-b) a hx hy hab2]
            obtain ⟨g, hg⟩ : ∃ g, g = Int.gcd z.1 z.2 := ⟨_, rfl⟩
            rw [← hg] at hx hy hk1' g1 g2 g3 g4 hq
            have hgg : 0 < (g : Int) * g ∧ (g : Int) * g ≤ 1000000 := ⟨Int.mul_pos (by omega) (by omega), by have := (mbd (a := g) (b := g) (A := 1000) (B := 1000) (by omega) (by omega)).2; omega⟩
            have r308 : ∀ (x23 x24 : Option Value), Run 308 (n228 n A B Y (jI Lz.length) lk (jI i) (jI b) bk (jI j) (some (.long (jL (g : Int)))) none x23 x24) [] h3 (0, 0) := by
              intro x23 x24
              obtain ⟨⟨hf1, hf2, hf3⟩, -, -, -⟩ := hFf v6
              have em : jL n / (jL (g : Int) * jL (g : Int)) = jL (n.tdiv ((g : Int) * g)) := by
                rw [jL_mul, jL_div (by omega) (by omega) (by omega) (by omega)]
              have c := ct_231 G L3 (f := f) hf1 hf2 hf3 (by omega) (x0 := z.1) (y0 := z.2) (g := g) (m := n.tdiv ((g : Int) * g)) zb1 zb2 (by omega) hx hy hxy ⟨g3, g4⟩
              rw [← em, ← e1, ← e2] at c
              refine hR 60 173 _ _ _ _ _ _ rfl ?_
              refine ⟨L3.K 1412 rfl, _, L3.R 1412 45 _ rfl, L3.K 1437 rfl, vin (L3.N 1436 rfl), L3.K 1412 rfl, _, L3.R 1412 46 _ rfl, L3.K 1438 rfl, vin (L3.N 1437 rfl), ?_, L3.K 1412 rfl, jcallP c ?_⟩
              · show ¬ jL (g : Int) * jL (g : Int) = jL 0
                rw [jL_mul, jL_eq (by omega) (by omega) (by omega) (by omega)]
                omega
              · rintro o h4 ⟨⟨q9, s9', hqs, rfl⟩, F4⟩
                have hk9 := hq x y q9 s9' hx hy hqs
                have := r335 h4 x23 x24 (jL (rootE f x y q9 s9' % (2 * n.tdiv ((g : Int) * g)))) (by rw [hk9]) (iv3.q F4)
                rw [hk1'] at this
                exact this
            have r306 : ∀ (x21 x22 x23 x24 : Option Value) (gL : Int64), gL = jL (g : Int) → Run 306 (n228 n A B Y (jI Lz.length) lk (jI i) (jI b) bk (jI j) x21 x22 x23 x24) [.long gL] h3 (0, 0) := by
              rintro x21 x22 x23 x24 gL rfl
              refine hR 60 172 _ _ _ _ _ _ rfl ?_
              exact r308 _ _
            have r289 : ∀ (x21 x22 x23 x24 : Option Value), Run 289 (n228 n A B Y (jI Lz.length) lk (jI i) (jI b) bk (jI j) x21 x22 x23 x24) [] h3 (0, 0) := by
              intro x21 x22 x23 x24
              have c := ct_197 G (x := z.1) (y := z.2) (by omega) (by omega) (by omega) (by omega) h3
              rw [← e1, ← e2, ← hg] at c
              refine hR 60 163 _ _ _ _ _ _ rfl ?_
              refine ⟨L3.K 1412 rfl, _, L3.R 1412 45 _ rfl, L3.K 1437 rfl, vin (L3.N 1436 rfl), L3.K 1412 rfl, _, L3.R 1412 46 _ rfl, L3.K 1438 rfl, vin (L3.N 1437 rfl), jcall c ?_⟩
              exact r306 _ _ _ _ _ rfl
            refine hR 60 160 _ _ _ _ _ _ rfl ?_
            refine ⟨fun c => ?_, fun c => r289 _ _ _ _⟩
            simp (disch := omega) only [mj_lcm, jI_lt, jI_le, jI_eq, jL_lt, jL_le, jL_eq, jI_lt0, jI_0le, jI_0lt, jI_le0, jI_eq0, jL_eq0, jI_L, jI_add, jI_sub, jI_mul, jI_neg, jL_add, jL_sub, jL_mul, jL_neg, jL_I, jI_div, jI_mod, jL_div, jL_mod] at c
            omega
        have r279 : ∀ (x20 x21 x22 x23 x24 : Option Value), Run 279 (m228 n A B Y (jI Lz.length) lk (jI i) (some (.int (jI (-1)))) (some (.long (jL 0))) none (some (.long (jL 0))) none x20 x21 x22 x23 x24) [] h' (0, 0) := by
          intro x20 x21 x22 x23 x24
          refine hR 60 158 _ _ _ _ _ _ rfl ?_
          exact r282 Lz.length 0 (-1) (0, 0) _ _ h' _ _ _ _ (by omega) (Or.inl ⟨rfl, fun t z h1 _ => by omega⟩) (by decide) iv rfl rfl
        have r276 : ∀ (x18 x19 x20 x21 x22 x23 x24 : Option Value), Run 276 (m228 n A B Y (jI Lz.length) lk (jI i) (some (.int (jI (-1)))) (some (.long (jL 0))) none x18 x19 x20 x21 x22 x23 x24) [] h' (0, 0) := by
          intro x18 x19 x20 x21 x22 x23 x24
          refine hR 60 156 _ _ _ _ _ _ rfl ?_
          exact r279 _ _ _ _ _
        have r273 : ∀ (x16 x17 x18 x19 x20 x21 x22 x23 x24 : Option Value), Run 273 (m228 n A B Y (jI Lz.length) lk (jI i) (some (.int (jI (-1)))) x16 x17 x18 x19 x20 x21 x22 x23 x24) [] h' (0, 0) := by
          intro x16 x17 x18 x19 x20 x21 x22 x23 x24
          refine hR 60 154 _ _ _ _ _ _ rfl ?_
          exact r276 _ _ _ _ _ _ _
        have r270 : ∀ (x15 x16 x17 x18 x19 x20 x21 x22 x23 x24 : Option Value), Run 270 (m228 n A B Y (jI Lz.length) lk (jI i) x15 x16 x17 x18 x19 x20 x21 x22 x23 x24) [] h' (0, 0) := by
          intro x15 x16 x17 x18 x19 x20 x21 x22 x23 x24
          refine hR 60 152 _ _ _ _ _ _ rfl ?_
          exact r273 _ _ _ _ _ _ _ _ _
        refine hR 60 149 _ _ _ _ _ _ rfl ?_
        refine ⟨fun c => ?_, fun c => r270 _ _ _ _ _ _ _ _ _ _⟩
        simp (disch := omega) only [mj_lcm, jI_lt, jI_le, jI_eq, jL_lt, jL_le, jL_eq, jI_lt0, jI_0le, jI_0lt, jI_le0, jI_eq0, jL_eq0, jI_L, jI_add, jI_sub, jI_mul, jI_neg, jL_add, jL_sub, jL_mul, jL_neg, jL_I, jI_div, jI_mod, jL_div, jL_mod] at c
        omega
    rintro h' x9 x10 x11 x12 x13 x14 x15 x16 x17 x18 x19 x20 x21 x22 x23 x24 hx9 hbo' hok' F
    obtain ⟨s1, ⟨s2, s3⟩, s4⟩ := hx9
    rw [← hLz] at s1 s2 s3 s4
    have hs2 : s9.2 = 0 := by
      refine Classical.byContradiction fun z => ?_
      have := s3 z
      omega
    rw [hs2, Nat.add_zero] at s1
    have hXa : ∀ {h2 : mj_H}, h2.2.1 = h'.2.1 → isXa h2 Lz := fun e i z hz => by
      have := s4 i z hz
      unfold hJ
      rw [e]
      exact ⟨this.1, this.2.1⟩
    have K' := (F.lay L).K 1412 rfl
    obtain ⟨h2, hh2⟩ : ∃ h2, h2 = sI h' 1412 40 (jI 0) := ⟨_, rfl⟩
    obtain ⟨h3, hh3⟩ : ∃ h3, h3 = sI h2 1412 48 (jI 8) := ⟨_, rfl⟩
    have F2 : FrM iBw jBw sBw h h2 := by
      rw [hh2]
      exact F.fI (k := 40) (by omega) _
    have F3 : FrM iBw jBw sBw h h3 := by
      rw [hh3]
      exact F2.fI (k := 48) (by omega) _
    have iv3 : ivB h h3 Lz [] Kf := by
      subst hh2 hh3
      exact ⟨hXa rfl, ⟨rfl, Nat.zero_le _, fun i t _ ht => absurd ht (by simp)⟩, hbo', hok', rfl, F3⟩
    have r260 : ∀ (x14 x15 x16 x17 x18 x19 x20 x21 x22 x23 x24 : Option Value), Run 260 (l228 n A B Y (some (.int (jI Lz.length))) (some (.long (jL 0))) none (some (.long (jL (-1)))) none x14 x15 x16 x17 x18 x19 x20 x21 x22 x23 x24) [] h3 (0, 0) := by
      intro x14 x15 x16 x17 x18 x19 x20 x21 x22 x23 x24
      refine hR 60 147 _ _ _ _ _ _ rfl ?_
      exact r263 Lz.length 0 [] (0, -1) _ h3 _ _ _ _ _ _ _ _ _ _ (by omega) rfl (fun z hz => absurd hz (by simp)) (fun i j z z' _ hz => absurd hz (by simp)) (fun z hz => Or.inr (by have := key hz; unfold ltK; omega)) (by decide) iv3 rfl
    have r254 : ∀ (x14 x15 x16 x17 x18 x19 x20 x21 x22 x23 x24 : Option Value), Run 254 (l228 n A B Y (some (.int (jI Lz.length))) (some (.long (jL 0))) none (some (.long (jL (-1)))) none x14 x15 x16 x17 x18 x19 x20 x21 x22 x23 x24) [] h2 (0, 0) := by
      intro x14 x15 x16 x17 x18 x19 x20 x21 x22 x23 x24
      have := r260 x14 x15 x16 x17 x18 x19 x20 x21 x22 x23 x24
      rw [hh3] at this
      refine hR 60 144 _ _ _ _ _ _ rfl ?_
      exact ⟨(F2.lay L).K 1412 rfl, this⟩
    have r249 : ∀ (x12 x13 x14 x15 x16 x17 x18 x19 x20 x21 x22 x23 x24 : Option Value), Run 249 (l228 n A B Y (some (.int (jI Lz.length))) (some (.long (jL 0))) none x12 x13 x14 x15 x16 x17 x18 x19 x20 x21 x22 x23 x24) [] h2 (0, 0) := by
      intro x12 x13 x14 x15 x16 x17 x18 x19 x20 x21 x22 x23 x24
      refine hR 60 142 _ _ _ _ _ _ rfl ?_
      exact r254 _ _ _ _ _ _ _ _ _ _ _
    have r246 : ∀ (x10 x11 x12 x13 x14 x15 x16 x17 x18 x19 x20 x21 x22 x23 x24 : Option Value), Run 246 (l228 n A B Y (some (.int (jI Lz.length))) x10 x11 x12 x13 x14 x15 x16 x17 x18 x19 x20 x21 x22 x23 x24) [] h2 (0, 0) := by
      intro x10 x11 x12 x13 x14 x15 x16 x17 x18 x19 x20 x21 x22 x23 x24
      refine hR 60 140 _ _ _ _ _ _ rfl ?_
      exact r249 _ _ _ _ _ _ _ _ _ _ _ _ _
    have r241 : ∀ (x10 x11 x12 x13 x14 x15 x16 x17 x18 x19 x20 x21 x22 x23 x24 : Option Value), Run 241 (l228 n A B Y (some (.int (jI Lz.length))) x10 x11 x12 x13 x14 x15 x16 x17 x18 x19 x20 x21 x22 x23 x24) [] h' (0, 0) := by
      intro x10 x11 x12 x13 x14 x15 x16 x17 x18 x19 x20 x21 x22 x23 x24
      have := r246 x10 x11 x12 x13 x14 x15 x16 x17 x18 x19 x20 x21 x22 x23 x24
      rw [hh2] at this
      refine hR 60 137 _ _ _ _ _ _ rfl ?_
      exact ⟨K', this⟩
    refine hR 60 134 _ _ _ _ _ _ rfl ?_
    refine ⟨K', ?_⟩
    rw [s1]
    exact r241 _ _ _ _ _ _ _ _ _ _ _ _ _ _ _
  have r224 : 0 < n → ∀ (h' : mj_H) (x9 x10 x11 x12 x13 x14 x15 x16 x17 x18 x19 x20 x21 x22 x23 x24 : Option Value), s9.1.length + s9.2 < 1000000 → isXs h' s9 → isBo h' → isOK h' → FrM iBw jBw sBw h h' → Run 224 (l228 n A B Y x9 x10 x11 x12 x13 x14 x15 x16 x17 x18 x19 x20 x21 x22 x23 x24) [] h' (0, 0) := by
    intro hn0 h' x9 x10 x11 x12 x13 x14 x15 x16 x17 x18 x19 x20 x21 x22 x23 x24 hlt hx9 hbo' hok' F
    have e40 := hx9.1
    refine hR 60 129 _ _ _ _ _ _ rfl ?_
    refine ⟨(F.lay L).K 1412 rfl, fun c => ?_, fun c => ⟨rfl, hbo', hok', fun z => absurd z (by omega), fun _ => ⟨fun z => ⟨s9.1.length + s9.2, z, hlt, e40⟩, fun z => ?_⟩, F⟩⟩
    · rw [e40] at c
      simp (disch := omega) only [mj_lcm, jI_lt, jI_le, jI_eq, jL_lt, jL_le, jL_eq, jI_lt0, jI_0le, jI_0lt, jI_le0, jI_eq0, jL_eq0, jI_L, jI_add, jI_sub, jI_mul, jI_neg, jL_add, jL_sub, jL_mul, jL_neg, jL_I, jI_div, jI_mod, jL_div, jL_mod] at c
      exact sorted hn0 (by omega) h' _ _ _ _ _ _ _ _ _ _ _ _ _ _ _ _ hx9 hbo' hok' F
    · rw [e40] at c
      simp (disch := omega) only [mj_lcm, jI_lt, jI_le, jI_eq, jL_lt, jL_le, jL_eq, jI_lt0, jI_0le, jI_0lt, jI_le0, jI_eq0, jL_eq0, jI_L, jI_add, jI_sub, jI_mul, jI_neg, jL_add, jL_sub, jL_mul, jL_neg, jL_I, jI_div, jI_mod, jL_div, jL_mod] at c
      omega
  have hAn : 0 < n → 0 ≤ 4 * A * n ∧ 4 * A * n ≤ 4194304000000 := fun hn0 => by
    have h1 := (mbd (a := A) (b := n) (A := 1048576) (B := 1000000) (by omega) (by omega)).2
    have h2 : 0 < A * n := Int.mul_pos hAb.1 hn0
    rw [Int.mul_assoc]
    omega
  have r79 : 0 < n → ∀ (q : Nat) (y : Int) (s : xS) (yL : Int64) (h' : mj_H) (x11 x12 x13 x14 x15 x16 x17 x18 x19 x20 x21 x22 x23 x24 : Option Value), y + q = Y + 1 → -(Y : Int) ≤ y → belS d f an m A B n q y s = s9 → ((s.1.length + s.2 : Nat) : Int) ≤ 2 * (y + Y) → isXs h' s → isBo h' → isOK h' → FrM iBw jBw sBw h h' → yL = jL y → Run 79 (l228 n A B Y (some (.long yL)) none x11 x12 x13 x14 x15 x16 x17 x18 x19 x20 x21 x22 x23 x24) [] h' (0, 0) := by
    intro hn0 q
    induction q with
    | zero =>
      rintro y s yL h' x11 x12 x13 x14 x15 x16 x17 x18 x19 x20 x21 x22 x23 x24 hq hy hs hl hx hbo' hok' F rfl
      have e : s = s9 := hs
      subst e
      refine hR 60 43 _ _ _ _ _ _ rfl ?_
      refine ⟨fun c => r224 hn0 h' _ _ _ _ _ _ _ _ _ _ _ _ _ _ _ _ (by omega) hx hbo' hok' F, fun c => ?_⟩
      simp (disch := omega) only [mj_lcm, jI_lt, jI_le, jI_eq, jL_lt, jL_le, jL_eq, jI_lt0, jI_0le, jI_0lt, jI_le0, jI_eq0, jL_eq0, jI_L, jI_add, jI_sub, jI_mul, jI_neg, jL_add, jL_sub, jL_mul, jL_neg, jL_I, jI_div, jI_mod, jL_div, jL_mod] at c
      omega
    | succ q ih =>
      rintro y s yL h' x11 x12 x13 x14 x15 x16 x17 x18 x19 x20 x21 x22 x23 x24 hq hy hs hl hx hbo' hok' F rfl
      have hyY : y ≤ Y := by omega
      obtain ⟨hAn1, hAn2⟩ := hAn hn0
      obtain ⟨v0, v1⟩ := bel_nn hd.2 hAn1 (hY hn0) hy hyY
      have hs2 : belS d f an m A B n q (y + 1) (xsF d f an m s (candL d A B n y)) = s9 := hs
      have hok2 := fun z => hok hn0 y z hy hyY
      have hBy := mbd (a := B) (b := y) (A := 1048576) (B := 100000) hBb (by omega)
      have c192 : ∀ r, isWd (4 * A * n + d * y * y) r → candL d A B n y = if r * r = 4 * A * n + d * y * y then (if (r - B * y).tmod (2 * A) = 0 then [((r - B * y).tdiv (2 * A), y)] else []) ++ (if 0 < r ∧ (-r - B * y).tmod (2 * A) = 0 then [((-r - B * y).tdiv (2 * A), y)] else []) else [] := fun r hr => by
        unfold candL
        rw [rtZ_eq hr]
      obtain ⟨u, hu⟩ : ∃ u, u = 4 * A * n + d * y * y := ⟨_, rfl⟩
      obtain ⟨t, ht⟩ : ∃ t, t = B * y := ⟨_, rfl⟩
      obtain ⟨a2, ha2⟩ : ∃ a2, a2 = 2 * A := ⟨_, rfl⟩
      rw [← hu] at v0 v1
      rw [← hu, ← ht, ← ha2] at c192
      rw [← ht] at hBy
      have r215 : ∀ (s' : xS) (h4 : mj_H) (x11 x12 x13 x14 x15 x16 x17 x18 x19 x20 x21 x22 x23 x24 : Option Value), belS d f an m A B n q (y + 1) s' = s9 → ((s'.1.length + s'.2 : Nat) : Int) ≤ 2 * (y + Y) + 2 → isXs h4 s' → isBo h4 → isOK h4 → FrM iBw jBw sBw h h4 → Run 215 (l228 n A B Y (some (.long (jL y))) none x11 x12 x13 x14 x15 x16 x17 x18 x19 x20 x21 x22 x23 x24) [] h4 (0, 0) := by
        intro s' h4 x11 x12 x13 x14 x15 x16 x17 x18 x19 x20 x21 x22 x23 x24 hs' hl' hx4 hb4 ho4 F4
        refine hR 60 124 _ _ _ _ _ _ rfl ?_
        exact ih (y + 1) s' _ h4 _ _ _ _ _ _ _ _ _ _ _ _ _ _ (by omega) (by omega) hs' (by omega) hx4 hb4 ho4 F4 (by rw [jL_add])
      have call : ∀ (z : zI) (s' : xS) (h4 : mj_H), okZ d f an m z → ((s'.1.length + s'.2 : Nat) : Int) ≤ 2 * (y + Y) + 1 → isXs h4 s' → isBo h4 → FrM iBw jBw sBw h h4 → mj_Ct G (mj_mt 229) 0 0 [.ref 1412, .long (jL z.1), .long (jL z.2)] h4 (fun oc h5 => oc = .returned none ∧ isXs h5 (putX s' (solZ d f (abk an m z))) ∧ isBo h5 ∧ FrM iSo jBe sSo h4 h5) := by
        intro z s' h4 hz hl' hx4 hb4 F4
        obtain ⟨f1, f2, f3, f4⟩ := hFf F4
        exact ct_229 G (F4.lay L) f2 hd f1 hfb.2.1 hm f3 f4 hz.1 hz.2 hb4 hx4 (by omega)
      have ups : ∀ {h4 h5 : mj_H}, FrM iBw jBw sBw h h4 → FrM iSo jBe sSo h4 h5 → FrM iBw jBw sBw h h5 := fun F4 F5 => upB F4 F5 (fun _ q => Or.inl q) (fun _ q => by rcases q with q | q <;> omega) (fun _ q => by rcases q with q | q <;> omega)
      have r128 : ∀ (r : Int) (x15 x16 x17 x18 x19 x20 x21 x22 x23 x24 : Option Value), isWd u r → r ≤ 3037000499 → r * r = u → Run 128 (l228 n A B Y (some (.long (jL y))) none (some (.long (jL u))) none (some (.long (jL r))) none x15 x16 x17 x18 x19 x20 x21 x22 x23 x24) [] h' (0, 0) := by
        intro r x15 x16 x17 x18 x19 x20 x21 x22 x23 x24 hr hrb hrr
        have hr0 := hr.1
        have hc := c192 r hr
        rw [if_pos hrr] at hc
        have em1 : (jL r - jL B * jL y) = jL (r - t) := by rw [jL_mul, jL_sub, ht]
        have em2 : (-(jL r) - jL B * jL y) = jL (-r - t) := by rw [jL_mul, jL_neg, jL_sub, ht]
        have em3 : jL 2 * jL A = jL a2 := by rw [jL_mul, ha2]
        have m1 : jL (r - t) % jL a2 = jL ((r - t).tmod a2) := jL_mod (by omega) (by omega) (by omega) (by omega)
        have m2 : jL (-r - t) % jL a2 = jL ((-r - t).tmod a2) := jL_mod (by omega) (by omega) (by omega) (by omega)
        have q1 : jL (r - t) / jL a2 = jL ((r - t).tdiv a2) := jL_div (by omega) (by omega) (by omega) (by omega)
        have q2 : jL (-r - t) / jL a2 = jL ((-r - t).tdiv a2) := jL_div (by omega) (by omega) (by omega) (by omega)
        have t1 : -4194304 < (r - t).tmod a2 ∧ (r - t).tmod a2 < 4194304 := by
          have h1 := Int.tmod_lt_of_pos (r - t) (show 0 < a2 by omega)
          have h2 := Int.lt_tmod_of_pos (r - t) (show 0 < a2 by omega)
          omega
        have t2 : -4194304 < (-r - t).tmod a2 ∧ (-r - t).tmod a2 < 4194304 := by
          have h1 := Int.tmod_lt_of_pos (-r - t) (show 0 < a2 by omega)
          have h2 := Int.lt_tmod_of_pos (-r - t) (show 0 < a2 by omega)
          omega
        have hnz : ¬ jL 2 * jL A = jL 0 := by
          rw [em3, jL_eq (by omega) (by omega) (by omega) (by omega)]
          omega
        have r167 : ∀ (s1 : xS) (h4 : mj_H) (x15 x16 x17 x18 x19 x20 x21 x22 x23 x24 : Option Value), s1 = xsF d f an m s (if (r - t).tmod a2 = 0 then [((r - t).tdiv a2, y)] else []) → ((s1.1.length + s1.2 : Nat) : Int) ≤ 2 * (y + Y) + 1 → isXs h4 s1 → isBo h4 → isOK h4 → FrM iBw jBw sBw h h4 → Run 167 (l228 n A B Y (some (.long (jL y))) none (some (.long (jL u))) none (some (.long (jL r))) none x15 x16 x17 x18 x19 x20 x21 x22 x23 x24) [] h4 (0, 0) := by
          intro s1 h4 x15 x16 x17 x18 x19 x20 x21 x22 x23 x24 hs1 hl1 hx4 hb4 ho4 F4
          rw [hc, xsF_app, ← hs1] at hs2
          have r194 : 0 < r ∧ (-r - t).tmod a2 = 0 → ∀ (x15 x16 x17 x18 x19 x20 x21 x22 x23 x24 : Option Value), Run 194 (l228 n A B Y (some (.long (jL y))) none (some (.long (jL u))) none (some (.long (jL r))) none x15 x16 x17 x18 x19 x20 x21 x22 x23 x24) [] h4 (0, 0) := by
            intro hp x15 x16 x17 x18 x19 x20 x21 x22 x23 x24
            rw [if_pos hp] at hs2
            have hz : okZ d f an m ((-r - t).tdiv a2, y) := hok2 _ (by
              rw [hc, if_pos hp]
              exact List.mem_append_right _ (List.mem_singleton.2 rfl))
            have c := call _ s1 h4 hz hl1 hx4 hb4 F4
            rw [← q2, ← em2, ← em3] at c
            refine hR 60 111 _ _ _ _ _ _ rfl ?_
            refine ⟨hnz, (F4.lay L).K 1412 rfl, jcallP c ?_⟩
            rintro o h5 ⟨rfl, x5, b5, F5⟩
            have hpl := putX_len s1 (solZ d f (abk an m ((-r - t).tdiv a2, y)))
            exact r215 (putX s1 (solZ d f (abk an m ((-r - t).tdiv a2, y)))) h5 _ _ _ _ _ _ _ _ _ _ _ _ _ _ hs2 (by omega) x5 b5 (okM F5 (by omega) ho4) (ups F4 F5)
          refine hR 60 94 _ _ _ _ _ _ rfl ?_
          refine ⟨fun c => ?_, fun c => ⟨?_, fun c2 => ?_, fun c2 => ?_⟩⟩
          · simp (disch := omega) only [mj_lcm, jI_lt, jI_le, jI_eq, jL_lt, jL_le, jL_eq, jI_lt0, jI_0le, jI_0lt, jI_le0, jI_eq0, jL_eq0, jI_L, jI_add, jI_sub, jI_mul, jI_neg, jL_add, jL_sub, jL_mul, jL_neg, jL_I, jI_div, jI_mod, jL_div, jL_mod] at c
            rw [if_neg (fun z => by omega)] at hs2
            exact r215 s1 h4 _ _ _ _ _ _ _ _ _ _ _ _ _ _ hs2 (by omega) hx4 hb4 ho4 F4
          · exact hnz
          · simp (disch := omega) only [mj_lcm, jI_lt, jI_le, jI_eq, jL_lt, jL_le, jL_eq, jI_lt0, jI_0le, jI_0lt, jI_le0, jI_eq0, jL_eq0, jI_L, jI_add, jI_sub, jI_mul, jI_neg, jL_add, jL_sub, jL_mul, jL_neg, jL_I, jI_div, jI_mod, jL_div, jL_mod] at c
            have c' : (-(jL r) - jL B * jL y) % (jL 2 * jL A) = jL 0 := c2
            rw [em2, em3, m2, jL_eq (by omega) (by omega) (by omega) (by omega)] at c'
            exact r194 ⟨by omega, c'⟩ _ _ _ _ _ _ _ _ _ _
          · have c' : ¬ (-(jL r) - jL B * jL y) % (jL 2 * jL A) = jL 0 := c2
            rw [em2, em3, m2, jL_eq (by omega) (by omega) (by omega) (by omega)] at c'
            rw [if_neg (fun z => c' z.2)] at hs2
            exact r215 s1 h4 _ _ _ _ _ _ _ _ _ _ _ _ _ _ hs2 (by omega) hx4 hb4 ho4 F4
        have r147 : (r - t).tmod a2 = 0 → ∀ (x15 x16 x17 x18 x19 x20 x21 x22 x23 x24 : Option Value), Run 147 (l228 n A B Y (some (.long (jL y))) none (some (.long (jL u))) none (some (.long (jL r))) none x15 x16 x17 x18 x19 x20 x21 x22 x23 x24) [] h' (0, 0) := by
          intro hp x15 x16 x17 x18 x19 x20 x21 x22 x23 x24
          have hz : okZ d f an m ((r - t).tdiv a2, y) := hok2 _ (by
            rw [hc, if_pos hp]
            exact List.mem_append_left _ (List.mem_singleton.2 rfl))
          have c := call _ s h' hz (by omega) hx hbo' F
          rw [← q1, ← em1, ← em3] at c
          refine hR 60 82 _ _ _ _ _ _ rfl ?_
          refine ⟨hnz, (F.lay L).K 1412 rfl, jcallP c ?_⟩
          rintro o h5 ⟨rfl, x5, b5, F5⟩
          have hpl := putX_len s (solZ d f (abk an m ((r - t).tdiv a2, y)))
          exact r167 (putX s (solZ d f (abk an m ((r - t).tdiv a2, y)))) h5 _ _ _ _ _ _ _ _ _ _ (by rw [if_pos hp]; rfl) (by omega) x5 b5 (okM F5 (by omega) hok') (ups F F5)
        refine hR 60 70 _ _ _ _ _ _ rfl ?_
        refine ⟨hnz, fun c2 => ?_, fun c2 => ?_⟩
        · have c' : (jL r - jL B * jL y) % (jL 2 * jL A) = jL 0 := c2
          rw [em1, em3, m1, jL_eq (by omega) (by omega) (by omega) (by omega)] at c'
          exact r147 c' _ _ _ _ _ _ _ _ _ _
        · have c' : ¬ (jL r - jL B * jL y) % (jL 2 * jL A) = jL 0 := c2
          rw [em1, em3, m1, jL_eq (by omega) (by omega) (by omega) (by omega)] at c'
          exact r167 s h' _ _ _ _ _ _ _ _ _ _ (by rw [if_neg c']; rfl) (by omega) hx hbo' hok' F
      have r114 : ∀ (r : Int) (x15 x16 x17 x18 x19 x20 x21 x22 x23 x24 : Option Value), isWd u r → r ≤ 3037000499 → Run 114 (l228 n A B Y (some (.long (jL y))) none (some (.long (jL u))) none (some (.long (jL r))) none x15 x16 x17 x18 x19 x20 x21 x22 x23 x24) [] h' (0, 0) := by
        intro r x15 x16 x17 x18 x19 x20 x21 x22 x23 x24 hr hrb
        have hr0 := hr.1
        have hr1 := hr.2.1
        have hr2 := sqn r
        refine hR 60 63 _ _ _ _ _ _ rfl ?_
        refine ⟨fun c => ?_, fun c => ?_⟩
        · have c' : jL r * jL r = jL u := c
          rw [jL_mul, jL_eq (by omega) (by omega) (by omega) (by omega)] at c'
          exact r128 r _ _ _ _ _ _ _ _ _ _ hr hrb c'
        · have c' : ¬ jL r * jL r = jL u := c
          rw [jL_mul, jL_eq (by omega) (by omega) (by omega) (by omega)] at c'
          have hc := c192 r hr
          rw [if_neg c'] at hc
          rw [hc] at hs2
          exact r215 s h' _ _ _ _ _ _ _ _ _ _ _ _ _ _ hs2 (by omega) hx hbo' hok' F
      have r112 : ∀ (r : Int) (x13 x14 x15 x16 x17 x18 x19 x20 x21 x22 x23 x24 : Option Value) (rL : Int64), isWd u r → r ≤ 3037000499 → rL = jL r → Run 112 (l228 n A B Y (some (.long (jL y))) none (some (.long (jL u))) none x13 x14 x15 x16 x17 x18 x19 x20 x21 x22 x23 x24) [.long rL] h' (0, 0) := by
        rintro r x13 x14 x15 x16 x17 x18 x19 x20 x21 x22 x23 x24 rL hr hrb rfl
        refine hR 60 62 _ _ _ _ _ _ rfl ?_
        exact r114 r _ _ _ _ _ _ _ _ _ _ hr hrb
      have r107 : ∀ (x13 x14 x15 x16 x17 x18 x19 x20 x21 x22 x23 x24 : Option Value) (uL : Int64), uL = jL u → Run 107 (l228 n A B Y (some (.long (jL y))) none (some (.long uL)) none x13 x14 x15 x16 x17 x18 x19 x20 x21 x22 x23 x24) [] h' (0, 0) := by
        rintro x13 x14 x15 x16 x17 x18 x19 x20 x21 x22 x23 x24 uL rfl
        refine hR 60 60 _ _ _ _ _ _ rfl ?_
        refine jcallP (ct_192 G (v := u) v0 (by omega) h') ?_
        rintro o h4 ⟨rfl, r, rfl, r1, r2, r3, r4⟩
        exact r112 r _ _ _ _ _ _ _ _ _ _ _ _ _ ⟨r1, r3, r4⟩ r2 rfl
      have r87 : ∀ (x11 x12 x13 x14 x15 x16 x17 x18 x19 x20 x21 x22 x23 x24 : Option Value), Run 87 (l228 n A B Y (some (.long (jL y))) none x11 x12 x13 x14 x15 x16 x17 x18 x19 x20 x21 x22 x23 x24) [] h' (0, 0) := by
        intro x11 x12 x13 x14 x15 x16 x17 x18 x19 x20 x21 x22 x23 x24
        obtain ⟨-, fw, -, -⟩ := hFf F
        refine hR 60 47 _ _ _ _ _ _ rfl ?_
        refine ⟨(F.lay L).K 1412 rfl, ?_⟩
        rw [fw.1]
        refine r107 _ _ _ _ _ _ _ _ _ _ _ _ _ ?_
        rw [hu, jL_mul, jL_mul, jL_mul, jL_mul, jL_add]
      refine hR 60 43 _ _ _ _ _ _ rfl ?_
      refine ⟨fun c => ?_, fun c => r87 _ _ _ _ _ _ _ _ _ _ _ _ _ _⟩
      simp (disch := omega) only [mj_lcm, jI_lt, jI_le, jI_eq, jL_lt, jL_le, jL_eq, jI_lt0, jI_0le, jI_0lt, jI_le0, jI_eq0, jL_eq0, jI_L, jI_add, jI_sub, jI_mul, jI_neg, jL_add, jL_sub, jL_mul, jL_neg, jL_I, jI_div, jI_mod, jL_div, jL_mod] at c
      omega
  have r74 : 0 < n → ∀ (h' : mj_H) (x9 x10 x11 x12 x13 x14 x15 x16 x17 x18 x19 x20 x21 x22 x23 x24 : Option Value), isXs h' ([], 0) → isBo h' → isOK h' → FrM iBw jBw sBw h h' → Run 74 (l228 n A B Y x9 x10 x11 x12 x13 x14 x15 x16 x17 x18 x19 x20 x21 x22 x23 x24) [] h' (0, 0) := by
    intro hn0 h' x9 x10 x11 x12 x13 x14 x15 x16 x17 x18 x19 x20 x21 x22 x23 x24 hx hbo' hok' F
    refine hR 60 40 _ _ _ _ _ _ rfl ?_
    exact r79 hn0 (2 * Y + 1) (-(Y : Int)) ([], 0) _ h' _ _ _ _ _ _ _ _ _ _ _ _ _ _ (by omega) (by omega) hs9.symm (by show ((0 : Nat) : Int) ≤ _; omega) hx hbo' hok' F (by rw [jL_neg])
  have r72 : 0 < n → ∀ (h' : mj_H) (x7 x8 x9 x10 x11 x12 x13 x14 x15 x16 x17 x18 x19 x20 x21 x22 x23 x24 : Option Value) (YL : Int64), YL = jL (Y : Int) → isXs h' ([], 0) → isBo h' → isOK h' → FrM iBw jBw sBw h h' → Run 72 (p228 n (some (.long (jL A))) none (some (.long (jL B))) none x7 x8 x9 x10 x11 x12 x13 x14 x15 x16 x17 x18 x19 x20 x21 x22 x23 x24) [.long YL] h' (0, 0) := by
    rintro hn0 h' x7 x8 x9 x10 x11 x12 x13 x14 x15 x16 x17 x18 x19 x20 x21 x22 x23 x24 YL rfl hx hbo' hok' F
    refine hR 60 39 _ _ _ _ _ _ rfl ?_
    exact r74 hn0 h' _ _ _ _ _ _ _ _ _ _ _ _ _ _ _ _ hx hbo' hok' F
  have r56 : 0 < n → ∀ (h' : mj_H) (x7 x8 x9 x10 x11 x12 x13 x14 x15 x16 x17 x18 x19 x20 x21 x22 x23 x24 : Option Value), isXs h' ([], 0) → isBo h' → isOK h' → FrM iBw jBw sBw h h' → Run 56 (p228 n (some (.long (jL A))) none (some (.long (jL B))) none x7 x8 x9 x10 x11 x12 x13 x14 x15 x16 x17 x18 x19 x20 x21 x22 x23 x24) [] h' (0, 0) := by
    intro hn0 h' x7 x8 x9 x10 x11 x12 x13 x14 x15 x16 x17 x18 x19 x20 x21 x22 x23 x24 hx hbo' hok' F
    obtain ⟨-, fw, -, -⟩ := hFf F
    obtain ⟨hAn1, hAn2⟩ := hAn hn0
    have hYn := hY hn0
    obtain ⟨u, hu⟩ : ∃ u, u = 4 * A * n := ⟨_, rfl⟩
    rw [← hu] at hAn1 hAn2 hYn
    have h1 := Int.tdiv_nonneg hAn1 (show 0 ≤ -d by omega)
    have h2 : u.tdiv (-d) ≤ u := Int.tdiv_le_self _ hAn1
    have c := ct_192 G (v := u.tdiv (-d)) h1 (by omega) h'
    have em : jL 4 * jL A * jL n / (-(hJ h' 1412 1)) = jL (u.tdiv (-d)) := by
      rw [fw.1, jL_mul, jL_mul, jL_neg, ← hu, jL_div (by omega) (by omega) (by omega) (by omega)]
    rw [← em] at c
    refine hR 60 29 _ _ _ _ _ _ rfl ?_
    refine ⟨(F.lay L).K 1412 rfl, ?_, jcallP c ?_⟩
    · show ¬ -(hJ h' 1412 1) = jL 0
      rw [fw.1, jL_neg, jL_eq (by omega) (by omega) (by omega) (by omega)]
      omega
    · rintro o h4 ⟨rfl, r, rfl, r1, r2, r3, r4⟩
      have e : r = Y := isWd_unique ⟨r1, r3, r4⟩ hYn
      exact r72 hn0 _ _ _ _ _ _ _ _ _ _ _ _ _ _ _ _ _ _ _ _ (by rw [e]) hx hbo' hok' F
  have r50 : 0 < n → ∀ (h' : mj_H) (x5 x6 x7 x8 x9 x10 x11 x12 x13 x14 x15 x16 x17 x18 x19 x20 x21 x22 x23 x24 : Option Value) (AL : Int64), AL = jL A → hJ h' 1412 51 = jL B → isXs h' ([], 0) → isBo h' → isOK h' → FrM iBw jBw sBw h h' → Run 50 (p228 n (some (.long AL)) none x5 x6 x7 x8 x9 x10 x11 x12 x13 x14 x15 x16 x17 x18 x19 x20 x21 x22 x23 x24) [] h' (0, 0) := by
    rintro hn0 h' x5 x6 x7 x8 x9 x10 x11 x12 x13 x14 x15 x16 x17 x18 x19 x20 x21 x22 x23 x24 AL rfl hB51 hx hbo' hok' F
    refine hR 60 26 _ _ _ _ _ _ rfl ?_
    refine ⟨(F.lay L).K 1412 rfl, ?_⟩
    rw [hB51]
    exact r56 hn0 h' _ _ _ _ _ _ _ _ _ _ _ _ _ _ _ _ _ _ hx hbo' hok' F
  have r45 : 0 < n → ∀ (h' : mj_H) (x3 x4 x5 x6 x7 x8 x9 x10 x11 x12 x13 x14 x15 x16 x17 x18 x19 x20 x21 x22 x23 x24 : Option Value), isMm h' (itF d w m f) → isXs h' ([], 0) → isBo h' → isOK h' → FrM iBw jBw sBw h h' → Run 45 (p228 n x3 x4 x5 x6 x7 x8 x9 x10 x11 x12 x13 x14 x15 x16 x17 x18 x19 x20 x21 x22 x23 x24) [] h' (0, 0) := by
    intro hn0 h' x3 x4 x5 x6 x7 x8 x9 x10 x11 x12 x13 x14 x15 x16 x17 x18 x19 x20 x21 x22 x23 x24 hmm hx hbo' hok' F
    refine hR 60 23 _ _ _ _ _ _ rfl ?_
    refine ⟨(F.lay L).K 1412 rfl, ?_⟩
    exact r50 hn0 h' _ _ _ _ _ _ _ _ _ _ _ _ _ _ _ _ _ _ _ _ _ (by rw [hmm.1, hA.1]) (by rw [hmm.2.1, hA.2]) hx hbo' hok' F
  have r31 : 0 < n → ∀ (k : Nat) (g : Fm) (h' : mj_H) (x3 x4 x5 x6 x7 x8 x9 x10 x11 x12 x13 x14 x15 x16 x17 x18 x19 x20 x21 x22 x23 x24 : Option Value), trm d w k g → posT d w k g → itF d w k g = itF d w m f → isMm h' g → isXs h' ([], 0) → isBo h' → isOK h' → FrM iBw jBw sBw h h' → Run 31 (p228 n x3 x4 x5 x6 x7 x8 x9 x10 x11 x12 x13 x14 x15 x16 x17 x18 x19 x20 x21 x22 x23 x24) [] h' (0, 0) := by
    intro hn0 k
    induction k with
    | zero =>
      intro g h' x3 x4 x5 x6 x7 x8 x9 x10 x11 x12 x13 x14 x15 x16 x17 x18 x19 x20 x21 x22 x23 x24 tg pg eg mg hx hbo' hok' F
      have L' := F.lay L
      obtain ⟨-, fw, -, -⟩ := hFf F
      have eg' : g = itF d w m f := eg
      refine hR 60 17 _ _ _ _ _ _ rfl ?_
      refine ⟨L'.K 1412 rfl, jcall (ct_195 G L' fw (by omega) (by omega) (by omega) mg tg.1 (fun _ => pg)) ?_⟩
      rw [tg.2]
      exact ⟨fun c => absurd c (by decide), fun c => r45 hn0 h' _ _ _ _ _ _ _ _ _ _ _ _ _ _ _ _ _ _ _ _ _ _ (eg' ▸ mg) hx hbo' hok' F⟩
    | succ k ih =>
      intro g h' x3 x4 x5 x6 x7 x8 x9 x10 x11 x12 x13 x14 x15 x16 x17 x18 x19 x20 x21 x22 x23 x24 tg pg eg mg hx hbo' hok' F
      have L' := F.lay L
      obtain ⟨-, fw, -, -⟩ := hFf F
      have r38 : ∀ (x3 x4 x5 x6 x7 x8 x9 x10 x11 x12 x13 x14 x15 x16 x17 x18 x19 x20 x21 x22 x23 x24 : Option Value), Run 38 (p228 n x3 x4 x5 x6 x7 x8 x9 x10 x11 x12 x13 x14 x15 x16 x17 x18 x19 x20 x21 x22 x23 x24) [] h' (0, 0) := by
        intro x3 x4 x5 x6 x7 x8 x9 x10 x11 x12 x13 x14 x15 x16 x17 x18 x19 x20 x21 x22 x23 x24
        refine hR 60 20 _ _ _ _ _ _ rfl ?_
        refine ⟨L'.K 1412 rfl, jcallP (ct_199 G L' fw (by omega) (by omega) mg tg.1.1) ?_⟩
        rintro o h3 ⟨rfl, m3, -, F3⟩
        exact ih (nx d w g) h3 _ _ _ _ _ _ _ _ _ _ _ _ _ _ _ _ _ _ _ _ _ _ tg.2 pg.2 eg m3 (hx.M F3 (fun z => z) ⟨fun z => z, fun z => z⟩) (boM F3 (by omega) (by omega) hbo') (okM F3 (fun z => z) hok') (upB F F3 (fun _ z => z.elim) (fun k z => ⟨z.1, by have := z.2; omega⟩) (fun _ z => z.elim))
      refine hR 60 17 _ _ _ _ _ _ rfl ?_
      refine ⟨L'.K 1412 rfl, jcall (ct_195 G L' fw (by omega) (by omega) (by omega) mg tg.1.1 (fun _ => pg.1)) ?_⟩
      rw [tg.1.2]
      exact ⟨fun c => r38 _ _ _ _ _ _ _ _ _ _ _ _ _ _ _ _ _ _ _ _ _ _, fun c => absurd rfl c⟩
  have k0 := L.K 1412 rfl
  have r7 : 0 < n → ∀ (x3 x4 x5 x6 x7 x8 x9 x10 x11 x12 x13 x14 x15 x16 x17 x18 x19 x20 x21 x22 x23 x24 : Option Value), Run 7 (p228 n x3 x4 x5 x6 x7 x8 x9 x10 x11 x12 x13 x14 x15 x16 x17 x18 x19 x20 x21 x22 x23 x24) [] h (0, 0) := by
    intro hn0 x3 x4 x5 x6 x7 x8 x9 x10 x11 x12 x13 x14 x15 x16 x17 x18 x19 x20 x21 x22 x23 x24
    refine hR 60 5 _ _ _ _ _ _ rfl ?_
    refine ⟨k0, k0, k0, k0, k0, k0, ?_⟩
    exact r31 hn0 m f _ _ _ _ _ _ _ _ _ _ _ _ _ _ _ _ _ _ _ _ _ _ _ ht hpo rfl ⟨hf.1, hf.2.1, hf.2.2⟩ ⟨hf0, ⟨Nat.zero_le _, fun z => absurd rfl z⟩, fun i z hz => absurd hz (by simp)⟩ hb ho ((((FrM.refl iBw jBw sBw h).fJ (k := 50) (by omega) _).fJ (k := 51) (by omega) _).fJ (k := 52) (by omega) _)
  refine hR 60 0 _ _ _ _ _ _ rfl ?_
  refine ⟨fun c => ?_, fun c => ⟨rfl, hb, ho, fun _ => ⟨hf0, Nat.zero_le _, fun i t _ hz => absurd hz (by simp)⟩, fun z => ?_, FrM.refl _ _ _ h⟩⟩
  · simp (disch := omega) only [mj_lcm, jI_lt, jI_le, jI_eq, jL_lt, jL_le, jL_eq, jI_lt0, jI_0le, jI_0lt, jI_le0, jI_eq0, jL_eq0, jI_L, jI_add, jI_sub, jI_mul, jI_neg, jL_add, jL_sub, jL_mul, jL_neg, jL_I, jI_div, jI_mod, jL_div, jL_mod] at c
    exact r7 (pos_nz c hn.1) _ _ _ _ _ _ _ _ _ _ _ _ _ _ _ _ _ _ _ _ _ _
  · simp (disch := omega) only [mj_lcm, jI_lt, jI_le, jI_eq, jL_lt, jL_le, jL_eq, jI_lt0, jI_0le, jI_0lt, jI_le0, jI_eq0, jL_eq0, jI_L, jI_add, jI_sub, jI_mul, jI_neg, jL_add, jL_sub, jL_mul, jL_neg, jL_I, jI_div, jI_mod, jL_div, jL_mod] at c
    omega
end
