/-! a form at hand: where it comes, its ring, its place -/
/-- numbers that are great enough -/
theorem big_n1 : (1606938044258990275541962092341162602522202993782792835301376 * 2 ^ 15700 : Nat) < 4294967296 ^ 1024 := by decide +kernel
theorem big_n2 : (1606938044258990275541962092341162602522202993782792835301376 * 2 ^ 15700 : Nat) < 65536 ^ 1024 := by decide +kernel
theorem big_n3 : (65536 ^ 1024 : Nat) ≤ 32768 * 65536 ^ 1099 := by decide +kernel
theorem two_cast (k : Nat) : ((2 ^ k : Nat) : Int) = 2 ^ k := by rw [Int.natCast_pow]; rfl
theorem pB_cast (k : Nat) : pB k = ((65536 ^ k : Nat) : Int) := by unfold pB; rw [Int.natCast_pow]; rfl
theorem big1 {t : Int} (h : t ≤ 2 ^ 15700) : 1606938044258990275541962092341162602522202993782792835301376 * t < ((4294967296 ^ 1024 : Nat) : Int) := by
  have e1 := two_cast 15700
  have h1 := big_n1
  rw [← e1] at h
  generalize (4294967296 ^ 1024 : Nat) = X at *
  generalize (2 ^ 15700 : Nat) = Y at *
  omega
theorem pB_nat : pB 1024 = ((65536 ^ 1024 : Nat) : Int) := pB_cast 1024
theorem big2 {t : Int} (h : t ≤ 2 ^ 15700) : 1606938044258990275541962092341162602522202993782792835301376 * t < pB 1024 := by
  have e1 := two_cast 15700
  have h1 := big_n2
  rw [← e1] at h
  rw [pB_nat]
  generalize (65536 ^ 1024 : Nat) = X at *
  generalize (2 ^ 15700 : Nat) = Y at *
  omega
theorem big3 {v : Int} (h : (v.natAbs : Int) < pB 1024) : inR v := by
  have e1 := pB_cast 1099
  have h1 := big_n3
  unfold inR
  rw [pB_nat] at h
  rw [e1]
  generalize (65536 ^ 1024 : Nat) = X at *
  generalize (65536 ^ 1099 : Nat) = Y at *
  omega
theorem mm_bd {a b : mxI} {K L : Nat} (ha : bdE a K) (hb : bdE b L) : bdE (mm a b) (2 * (K * L)) := by
  have up : ∀ x y z u : Int, x.natAbs ≤ K → y.natAbs ≤ L → z.natAbs ≤ K → u.natAbs ≤ L → (x * y + z * u).natAbs ≤ 2 * (K * L) := by
    intro x y z u h1 h2 h3 h4
    have a1 : (x * y + z * u).natAbs ≤ (x * y).natAbs + (z * u).natAbs := Int.natAbs_add_le _ _
    rw [Int.natAbs_mul, Int.natAbs_mul] at a1
    have a2 := Nat.mul_le_mul h1 h2
    have a3 := Nat.mul_le_mul h3 h4
    omega
  obtain ⟨a1, a2, a3, a4⟩ := ha
  obtain ⟨b1, b2, b3, b4⟩ := hb
  exact ⟨up _ _ _ _ a1 b1 a2 b3, up _ _ _ _ a1 b2 a2 b4, up _ _ _ _ a3 b1 a4 b3, up _ _ _ _ a3 b2 a4 b4⟩
theorem trL_of {d w : Int} {to : Fm} : ∀ (n : Nat) (f : Fm) (m : mxI), (∀ i, i ≤ n → okF (itF d w i f)) → (∀ i, i < n → itF d w i f ≠ to) → itF d w n f = to → (∀ i, i < n → bdM (tnF d w f i) (itM d w i f m) ∧ -9223372036854775808 < tnF d w f i ∧ tnF d w f i < 9223372036854775808) → trL d w to n f m
  | 0, f, m, h1, _, h3, _ => ⟨h1 0 (Nat.le_refl _), h3⟩
  | n + 1, f, m, h1, h2, h3, h4 => by
    refine ⟨h1 0 (by omega), h2 0 (by omega), (h4 0 (by omega)).1, (h4 0 (by omega)).2, trL_of n (nx d w f) _ (fun i hi => h1 (i + 1) (by omega)) (fun i hi => h2 (i + 1) (by omega)) h3 (fun i hi => ?_)⟩
    exact h4 (i + 1) (by omega)
theorem bdM_of {k : Int} {m : mxI} {K : Nat} {t : Int} (hm : bdE m K) (hk : k.natAbs ≤ 1073741824) (hK : (K : Int) ≤ 1267650600228229401496703205376 * (t + 1)) (t0 : 0 ≤ t) (ht : t + 1 ≤ 2 ^ 15700) : bdM k m := by
  obtain ⟨h1, h2, h3, h4⟩ := hm
  have hb := big1 ht
  unfold bdM
  generalize (4294967296 ^ 1024 : Nat) = BB at *
  rw [Int.natAbs_mul, Int.natAbs_mul]
  have a1 : m.2.1.natAbs * k.natAbs ≤ K * 1073741824 := Nat.mul_le_mul h2 hk
  have a2 : m.2.2.2.natAbs * k.natAbs ≤ K * 1073741824 := Nat.mul_le_mul h4 hk
  omega
/-- what is to be known of a unit, above and below 0 -/
def isUu (d t u : Int) : Prop := t * t - d * (u * u) = 4 ∧ 0 ≤ t ∧ 0 ≤ u ∧ u ≤ t + 1 ∧ t + 1 ≤ 2 ^ 15700 ∧ (0 < d → isPu d t u)
section
variable {d w : Int} {n : Nat} {A : Nat → pI} {nxt : Nat → Nat} {cls : Nat → Int} {cnt : Nat} {nm : Nat → Nat}
theorem tf_red (T : isTF d w n A nxt cls cnt nm) {g : Fm} (hV : Vld d g) (ho : okF g) (hr : rdF d w g = true) : ∃ k, k < n ∧ g = fmP d (A k) := by
  obtain ⟨m, -, m2, k, k1, k2⟩ := T.2.2.2.2.2.1 g hV ho
  cases m with
  | zero => exact ⟨k, k1, k2⟩
  | succ m =>
    have := m2.1.2
    rw [hr] at this
    cases this
theorem fm_inj (T : isTF d w n A nxt cls cnt nm) {i j : Nat} (hi : i < n) (hj : j < n) (h : fmP d (A i) = fmP d (A j)) : i = j := by
  have e : A i = A j := congrArg k2 h
  exact sst_inj T.1.2.2.2.2.2.2.1 hi hj e
/-- the place of a form: e steps, class c, place i0 in the ring of length r -/
def hnP (d w : Int) (n : Nat) (A : Nat → pI) (cls : Nat → Int) (cnt : Nat) (nm : Nat → Nat) (F : Fm) (e k c r i0 : Nat) (pl : Nat → Nat) : Prop :=
  Vld d F ∧ cfB F 1073741824 ∧ (e ≤ 34 ∧ trm d w e F ∧ (d < 0 → posT d w e F) ∧ (∀ i, cfB (itF d w i F) 1073741824) ∧ (∀ i, i ≤ e → bdE (itM d w i F I2) 17592186044416) ∧ (∀ i, (tnF d w F i).natAbs ≤ 1073741824)) ∧
  (Vld d (itF d w e F) ∧ okF (itF d w e F) ∧ rdF d w (itF d w e F) = true) ∧ (k < n ∧ itF d w e F = fmP d (A k) ∧ c < cnt ∧ cls k = (c : Nat)) ∧
  (d < 0 → i0 = 0 ∧ r = 1) ∧ itF d w i0 (itF d w e F) = nmF d A nm c ∧
  (0 < d → isRn d w (itF d w e F) r ∧ i0 < r ∧ r ≤ n ∧ (∀ i, pl i < n ∧ itF d w i (itF d w e F) = fmP d (A (pl i))) ∧ ∀ i, i < r → (pl i = nm c ↔ i = i0))
theorem rn_dist {g : Fm} (hn : nsq d) (hd0 : 0 < d) (hw : isWd d w) (hD : dF g = d) (hr : Red g) {N : Nat} (hN : isRn d w g N) {i j : Nat} (hi : i < N) (hj : j < N) (h : itF d w i g = itF d w j g) : i = j := by
  have key : ∀ i j, i < j → j < N → itF d w i g = itF d w j g → False := by
    intro i j hij hj h
    have ej : itF d w j g = itF d w i (itF d w (j - i) g) := by
      rw [← itF_add, show j - i + i = j by omega]
    rw [ej] at h
    obtain ⟨D, R⟩ := itF_red hn hd0 hw (j - i) g hD hr
    have := itF_inj hn hd0 hw i _ _ hD hr D R h
    exact hN.2.2 (j - i) (by omega) (by omega) this.symm
  rcases Nat.lt_trichotomy i j with z | z | z
  · exact (key i j z hj h).elim
  · exact z
  · exact (key j i z hi h.symm).elim
theorem itF_modN {g : Fm} {N : Nat} (hN : isRn d w g N) (m : Nat) : itF d w m g = itF d w (m % N) g := by
  have e : m = N * (m / N) + m % N := (Nat.div_add_mod m N).symm
  have h := itF_mul hN.2.1 (m / N)
  conv => lhs; rw [e, itF_add, h]
theorem hand_ex (T : isTF d w n A nxt cls cnt nm) (hw : wdP d w) (hw4 : w ≤ 1024) {F : Fm} (hV : Vld d F) (ho : cfB F 1073741824) : ∃ (e k c r i0 : Nat) (pl : Nat → Nat), hnP d w n A cls cnt nm F e k c r i0 pl := by
  have hn := T.1.1
  have hdb := T.1.2.2.1
  obtain ⟨e, e1, e2, e3, e4, e5, e6⟩ := walk hn hdb hw hw4 hV (H := 1073741824) ⟨by decide, by decide⟩ ho
  have hVg := it_vld (w := w) hn e F hV
  obtain ⟨ok, rd⟩ := trm_rd e F e2
  obtain ⟨k, k1, k2'⟩ := tf_red T hVg ok rd
  obtain ⟨c, c1, c2, c3⟩ := tf_place T k1
  rw [← k2'] at c3
  obtain ⟨m1, m2⟩ := T.2.2.2.1 c c1
  have hnm := T.2.1 (nm c) m1
  rcases id hw with ⟨hd, -⟩ | ⟨hd, hw'⟩
  · have eq : itF d w e F = nmF d A nm c := redN_all (rdN_pos hd hVg.1 rd) (rdN_pos hd hnm.1.1 hnm.2.1) c3
    exact ⟨e, k, c, 1, 0, fun _ => 0, hV, ho, ⟨e1, e2, e3, e4, e5, e6⟩, ⟨hVg, ok, rd⟩, ⟨k1, k2', c1, c2⟩, fun _ => ⟨rfl, rfl⟩, eq, fun z => by omega⟩
  · have Rg := (rdF_red hn hd hw' hVg.1).1 rd
    obtain ⟨N, hN⟩ := rn_ex hn hd hw' hVg.1 Rg
    obtain ⟨m, hm⟩ := cycle_all hn hd hw' hVg.1 Rg ((rdF_red hn hd hw' hnm.1.1).1 hnm.2.1) c3
    have plx : ∀ i : Nat, ∃ p : Nat, p < n ∧ itF d w i (itF d w e F) = fmP d (A p) := by
      intro i
      obtain ⟨D, R⟩ := itF_red hn hd hw' i _ hVg.1 Rg
      have hVi := it_vld (w := w) hn i _ hVg
      obtain ⟨p, p1, p2⟩ := tf_red T hVi (it_ok hn hdb hw hw4 i _ hVg ok) ((rdF_red hn hd hw' D).2 R)
      exact ⟨p, p1, p2⟩
    obtain ⟨pl, hpl⟩ := Classical.axiomOfChoice plx
    have hi0 : itF d w (m % N) (itF d w e F) = nmF d A nm c := by
      rw [← itF_modN hN m]
      exact hm.symm
    have N0 := hN.1
    have hNn : N ≤ n := by
      have := len_sub ((List.range N).map pl) (List.range n) (by
        rw [List.Nodup, List.pairwise_map]
        refine List.Pairwise.imp_of_mem ?_ List.nodup_range
        intro a b ha hb hne z
        refine hne (rn_dist hn hd hw' hVg.1 Rg hN (List.mem_range.1 ha) (List.mem_range.1 hb) ?_)
        rw [(hpl a).2, (hpl b).2, z]) (fun x hx => by
        obtain ⟨i, -, rfl⟩ := List.mem_map.1 hx
        exact List.mem_range.2 (hpl i).1)
      rwa [List.length_map, List.length_range, List.length_range] at this
    refine ⟨e, k, c, N, m % N, pl, hV, ho, ⟨e1, e2, e3, e4, e5, e6⟩, ⟨hVg, ok, rd⟩, ⟨k1, k2', c1, c2⟩, fun z => by omega, hi0, fun _ => ⟨hN, Nat.mod_lt _ N0, hNn, hpl, fun i hi => ⟨fun z => ?_, fun z => ?_⟩⟩⟩
    · refine rn_dist hn hd hw' hVg.1 Rg hN hi (Nat.mod_lt _ N0) ?_
      rw [(hpl i).2, hi0, z]
      rfl
    · subst z
      refine fm_inj T (hpl _).1 m1 ?_
      rw [← (hpl _).2, hi0]
      rfl
theorem hnd_hd (T : isTF d w n A nxt cls cnt nm) (hw : wdP d w) (hw4 : w ≤ 1024) {F : Fm} {e k c r i0 : Nat} {pl : Nat → Nat} (h : hnP d w n A cls cnt nm F e k c r i0 pl) : hdP d w n A cls cnt nm F e k c r i0 pl (e + i0) := by
  obtain ⟨hV, ho, ⟨e1, e2, e3, e4, e5, e6⟩, ⟨hVg, ok, rd⟩, ⟨k1, k2', c1, c2⟩, hneg, hi0, hpos⟩ := h
  obtain ⟨o1, o2, o3⟩ := ho
  refine ⟨by omega, ⟨e2, e3, by omega, fun i hi => by have := e6 i; omega⟩, ⟨k1, k2', c1, c2⟩, fun hd => ?_, fun _ => rfl, fun hd => by have := (hneg hd).1; omega⟩
  obtain ⟨hN, h1, h2, h3, h4⟩ := hpos hd
  have hn := T.1.1
  have hw' : isWd d w := by
    rcases hw with z | z
    · omega
    · exact z.2
  have Rg := (rdF_red hn hd hw' hVg.1).1 rd
  refine ⟨⟨⟨hN.1, Nat.le_trans h2 T.1.2.2.2.2.1⟩, fun i hi => ⟨it_ok hn T.1.2.2.1 hw hw4 i _ hVg ok, (h3 i).1, (h3 i).2, ?_⟩, by rw [hN.2.1]; exact ⟨rfl, rfl⟩, fun i i1 i2 z => ?_⟩, h1, h4⟩
  · have := e6 (e + i)
    rw [← tnF_add] at this
    unfold tnF at this
    omega
  · obtain ⟨D, R⟩ := itF_red hn hd hw' i _ hVg.1 Rg
    refine hN.2.2 i i1 i2 ?_
    have q1 := (fmP_of D (nsq_1 hn D)).1
    rw [z.1, z.2] at q1
    exact q1.symm.trans (fmP_of hVg.1 (nsq_1 hn hVg.1)).1
/-- the matrices of the path to the name -/
theorem hnd_mat (T : isTF d w n A nxt cls cnt nm) (hw : wdP d w) (hw4 : w ≤ 1024) {F : Fm} {e k c r i0 : Nat} {pl : Nat → Nat} (h : hnP d w n A cls cnt nm F e k c r i0 pl) {t u : Int} (hu : isUu d t u) {i : Nat} (hi : i ≤ r) (hi2 : d < 0 → i = 0) : ∃ K : Nat, bdE (itM d w (e + i) F I2) K ∧ (K : Int) ≤ 36028797018963968 * (t + 1) := by
  obtain ⟨hV, ho, ⟨e1, e2, e3, e4, e5, e6⟩, ⟨hVg, ok, rd⟩, -, hneg, hi0, hpos⟩ := h
  have t0 := hu.2.1
  rcases id hw with ⟨hd, -⟩ | ⟨hd, hw'⟩
  · rw [hi2 hd]
    exact ⟨17592186044416, e5 e (Nat.le_refl _), by omega⟩
  · have hn := T.1.1
    have Rg := (rdF_red hn hd hw' hVg.1).1 rd
    obtain ⟨hN, -⟩ := hpos hd
    have hb := ring_bd hn T.1.2.1 hd hw' hw4 hVg Rg (hu.2.2.2.2.2 hd) hN hi
    have hb' : bdE (itM d w i (itF d w e F) I2) (1024 * t.toNat) := by
      obtain ⟨b1, b2, b3, b4⟩ := hb
      refine ⟨by omega, by omega, by omega, by omega⟩
    refine ⟨2 * (17592186044416 * (1024 * t.toNat)), ?_, by omega⟩
    rw [itM_add, itM_mm]
    exact mm_bd (e5 e (Nat.le_refl _)) hb'
theorem hnd_se (T : isTF d w n A nxt cls cnt nm) (hw : wdP d w) (hw4 : w ≤ 1024) {F : Fm} {e k c r i0 : Nat} {pl : Nat → Nat} (h : hnP d w n A cls cnt nm F e k c r i0 pl) {t u : Int} (hu : isUu d t u) : seP d w n A cls cnt nm t u F e c e i0 := by
  have hmat := fun i hi hi2 => hnd_mat T hw hw4 h hu (i := i) hi hi2
  obtain ⟨hV, ho, ⟨e1, e2, e3, e4, e5, e6⟩, ⟨hVg, ok, rd⟩, ⟨k1, k2', c1, c2⟩, hneg, hi0, hpos⟩ := h
  obtain ⟨hp, t0, u0, ut, ht, -⟩ := hu
  have hn := T.1.1
  have okF0 : okF F := by
    have c0 := nsq_3 hn hV.1
    obtain ⟨o1, o2, o3⟩ := ho
    exact ⟨by omega, by omega, by omega, c0⟩
  have hok := fun i => it_ok hn T.1.2.2.1 hw hw4 i F hV okF0
  have hir : i0 ≤ r ∧ (d < 0 → i0 = 0) := by
    rcases id hw with ⟨hd, -⟩ | ⟨hd, -⟩
    · have := hneg hd
      exact ⟨by omega, fun _ => this.1⟩
    · have := (hpos hd).2.1
      exact ⟨by omega, fun z => by omega⟩
  have tn30 : ∀ i, -9223372036854775808 < tnF d w F i ∧ tnF d w F i < 9223372036854775808 := fun i => by
    have := e6 i
    omega
  refine ⟨?_, ?_, ⟨e2, by omega, ok, rd⟩, ⟨k, k1, ?_⟩, c1, ⟨?_, by omega⟩, ?_, ?_⟩
  · obtain ⟨o1, o2, o3⟩ := ho
    omega
  · obtain ⟨o1, o2, o3⟩ := ho
    have hb := big1 ht
    unfold seB
    generalize (4294967296 ^ 1024 : Nat) = BB at *
    rw [Int.natAbs_mul, Int.natAbs_mul, Int.natAbs_mul, Int.natAbs_neg]
    have q1 : u.natAbs * F.2.1.natAbs ≤ u.natAbs * 1073741824 := Nat.mul_le_mul_left _ o2
    have q2 : u.natAbs * F.1.natAbs ≤ u.natAbs * 1073741824 := Nat.mul_le_mul_left _ o1
    have q3 : u.natAbs * F.2.2.natAbs ≤ u.natAbs * 1073741824 := Nat.mul_le_mul_left _ o3
    refine ⟨by omega, by omega, by omega⟩
  · rw [k2']
    exact ⟨rfl, rfl, c2⟩
  · refine trL_of e F I2 (fun i _ => hok i) (fun i hi z => ?_) rfl (fun i hi => ⟨?_, tn30 i⟩)
    · have := trm_first e F e2 i hi
      rw [z, rd] at this
      cases this
    · exact bdM_of (K := 17592186044416) (t := t) (e5 i (by omega)) (e6 i) (by omega) t0 ht
  · refine trL_of i0 _ _ (fun i _ => ?_) (fun i hi z => ?_) hi0 (fun i hi => ?_)
    · rw [← itF_add]
      exact hok _
    · rcases id hw with ⟨hd, -⟩ | ⟨hd, hw'⟩
      · have := (hneg hd).1
        omega
      · obtain ⟨hN, h1, h2, h3, h4⟩ := hpos hd
        have Rg := (rdF_red hn hd hw' hVg.1).1 rd
        have := rn_dist hn hd hw' hVg.1 Rg hN (i := i) (j := i0) (by omega) h1 (z.trans hi0.symm)
        omega
    · rw [tnF_add, ← itM_add]
      obtain ⟨K, K1, K2⟩ := hmat i (by omega) (fun z => by have := hir.2 z; omega)
      exact ⟨bdM_of K1 (e6 _) (by omega) t0 ht, tn30 _⟩
  · rcases id hw with ⟨hd, -⟩ | ⟨hd, -⟩
    · have := (hneg hd).1
      omega
    · obtain ⟨hN, h1, h2, h3, h4⟩ := hpos hd
      have := T.1.2.2.2.2.1
      omega
/-- what the solver asks of the form at hand -/
theorem hnd_so (T : isTF d w n A nxt cls cnt nm) (hw : wdP d w) (hw4 : w ≤ 1024) {F : Fm} {e k c r i0 : Nat} {pl : Nat → Nat} (h : hnP d w n A cls cnt nm F e k c r i0 pl) {t u : Int} (hu : isUu d t u) : soF d w F e e r ∧ rnP d w (itF d w e F) r := by
  have hse := hnd_se T hw hw4 h hu
  obtain ⟨hV, ho, ⟨e1, e2, e3, e4, e5, e6⟩, ⟨hVg, ok, rd⟩, ⟨k1, k2', c1, c2⟩, hneg, hi0, hpos⟩ := h
  have hn := T.1.1
  have rn : rnP d w (itF d w e F) r := by
    refine ⟨ok, ?_, fun hd => (hneg hd).2, fun hd => ?_⟩
    · rcases id hw with ⟨hd, -⟩ | ⟨hd, -⟩
      · have := (hneg hd).2
        omega
      · exact (hpos hd).1.1
    · obtain ⟨hN, -⟩ := hpos hd
      exact ⟨fun i => it_ok hn T.1.2.2.1 hw hw4 i _ hVg ok, hN⟩
  obtain ⟨o1, o2, o3⟩ := ho
  have small := T.2.1 k k1
  rw [← k2'] at small
  have sm1 : (itF d w e F).1 = (A k).1 ∧ (itF d w e F).2.1 = (A k).2 := by rw [k2']; exact ⟨rfl, rfl⟩
  refine ⟨⟨by omega, ⟨e2, e3, by omega, fun i hi => by have := e6 i; omega⟩, fun hd => ?_, fun hd => ?_, hse.2.2.2.2.2.1.1, by omega, r, rn⟩, rn⟩
  · obtain ⟨hN, h1, h2, h3, h4⟩ := hpos hd
    refine ⟨⟨hN.1, Nat.le_trans h2 T.1.2.2.2.2.1⟩, fun i hi => ⟨?_, ?_, ?_⟩⟩
    · have := e6 (e + i)
      rw [← tnF_add] at this
      omega
    · have s := (T.2.1 _ (h3 i).1).2.2.1
      have q : (itF d w i (itF d w e F)).1 = (A (pl i)).1 := by rw [(h3 i).2]; rfl
      rw [q]
      omega
    · have s := (T.2.1 _ (h3 i).1).2.2.2
      have q : (itF d w i (itF d w e F)).2.1 = (A (pl i)).2 := by rw [(h3 i).2]; rfl
      rw [q]
      omega
  · have hw1 : w = -1 := by
      rcases hw with z | z
      · exact z.2
      · omega
    have pa := hVg.2.2 hd
    refine ⟨hw1, ?_, ?_⟩
    · rw [sm1.1] at pa ⊢
      omega
    · rw [sm1.2]
      omega
/-- the numbers are the same, and small -/
theorem hnd_nu (T : isTF d w n A nxt cls cnt nm) (hw : wdP d w) (hw4 : w ≤ 1024) {F : Fm} {e k c r i0 : Nat} {pl : Nat → Nat} (h : hnP d w n A cls cnt nm F e k c r i0 pl) {t u x6 x7 : Int} (hu : isUu d t u) (h6 : 0 ≤ x6 ∧ x6 ≤ t) (h7 : 0 ≤ x7 ∧ x7 ≤ t) : nuE (itM d w i0 (itF d w e F) (itM d w e F (1, 0, 0, 1))) (wyR (tnF d w F) (e + i0)) F t u x6 x7 ∧ (∀ fs j, j < 12 → ((nuM (wyR (tnF d w F) (e + i0)) F t u x6 x7 fs j).natAbs : Int) < pB 1024) ∧ (((1 * t + -F.2.1 * u).natAbs : Int) < pB 1024 ∧ ((1 * t + F.2.1 * u).natAbs : Int) < pB 1024) := by
  have hmat := hnd_mat T hw hw4 h hu (i := i0)
  obtain ⟨hV, ho, -, -, -, hneg, -, hpos⟩ := h
  obtain ⟨hp, t0, u0, ut, ht, -⟩ := hu
  have hir : i0 ≤ r ∧ (d < 0 → i0 = 0) := by
    rcases id hw with ⟨hd, -⟩ | ⟨hd, -⟩
    · have := hneg hd
      exact ⟨by omega, fun _ => this.1⟩
    · have := (hpos hd).2.1
      exact ⟨by omega, fun z => by omega⟩
  obtain ⟨K, ⟨K1, K2, K3, K4⟩, KB⟩ := hmat hir.1 hir.2
  have hbig := big2 ht
  have hD : F.2.1 * F.2.1 - 4 * F.1 * F.2.2 = d := hV.1
  have hpar := par_unit hD hp
  have hm : itM d w i0 (itF d w e F) (itM d w e F (1, 0, 0, 1)) = itM d w (e + i0) F I2 := (itM_add d w e i0 F I2).symm
  obtain ⟨W0, W1, W2, W3⟩ := wy_iv d w F (e + i0)
  obtain ⟨o1, o2, o3⟩ := ho
  have bu : (F.2.1 * u).natAbs ≤ 1073741824 * u.natAbs := by
    rw [Int.natAbs_mul]
    exact Nat.mul_le_mul_right _ o2
  have cu : (F.2.2 * u).natAbs ≤ 1073741824 * u.natAbs := by
    rw [Int.natAbs_mul]
    exact Nat.mul_le_mul_right _ o3
  have au : (F.1 * u).natAbs ≤ 1073741824 * u.natAbs := by
    rw [Int.natAbs_mul]
    exact Nat.mul_le_mul_right _ o1
  have m1 : 1 * t + -F.2.1 * u = t - F.2.1 * u := by
    rw [Int.one_mul, Int.neg_mul]
    omega
  have m2 : 1 * t + F.2.1 * u = t + F.2.1 * u := by rw [Int.one_mul]
  refine ⟨?_, ?_, ?_⟩
  · rw [hm]
    intro fs j
    match j with
    | 0 => rw [if_neg (by omega)]; exact W0.symm
    | 1 => rw [if_pos (by omega)]; exact W1.symm
    | 2 => rw [if_pos (by omega)]; exact W2.symm
    | 3 => rw [if_neg (by omega)]; exact W3.symm
    | 4 => rw [if_neg (by omega)]; rfl
    | 5 => rw [if_neg (by omega)]; rfl
    | 6 => rw [if_neg (by omega)]; rfl
    | 7 => rw [if_neg (by omega)]; rfl
    | 8 =>
      rw [if_neg (by omega)]
      show (t - u * F.2.1).tdiv 2 = (1 * t + -F.2.1 * u) / 2
      rw [m1, Int.mul_comm u]
      exact Int.tdiv_eq_ediv_of_dvd (Int.dvd_of_emod_eq_zero hpar)
    | 9 =>
      rw [if_neg (by omega)]
      show u * -F.2.2 = -F.2.2 * u
      exact Int.mul_comm _ _
    | 10 =>
      rw [if_neg (by omega)]
      show u * F.1 = F.1 * u
      exact Int.mul_comm _ _
    | 11 =>
      rw [if_neg (by omega)]
      show (t + u * F.2.1).tdiv 2 = (1 * t + F.2.1 * u) / 2
      rw [m2, Int.mul_comm u]
      exact Int.tdiv_eq_ediv_of_dvd (Int.dvd_of_emod_eq_zero (by omega))
    | i + 12 => rw [if_neg (by omega)]; rfl
  · generalize pB 1024 = PB at hbig ⊢
    intro fs j hj
    match j, hj with
    | 0, _ =>
      show ((wyR (tnF d w F) (e + i0) 0).natAbs : Int) < PB
      rw [W0]
      omega
    | 1, _ =>
      show ((wyR (tnF d w F) (e + i0) 1).natAbs : Int) < PB
      rw [W1, Int.natAbs_neg]
      omega
    | 2, _ =>
      show ((wyR (tnF d w F) (e + i0) 2).natAbs : Int) < PB
      rw [W2, Int.natAbs_neg]
      omega
    | 3, _ =>
      show ((wyR (tnF d w F) (e + i0) 3).natAbs : Int) < PB
      rw [W3]
      omega
    | 4, _ =>
      show (t.natAbs : Int) < PB
      omega
    | 5, _ =>
      show (u.natAbs : Int) < PB
      omega
    | 6, _ =>
      show (x6.natAbs : Int) < PB
      omega
    | 7, _ =>
      show (x7.natAbs : Int) < PB
      omega
    | 8, _ =>
      show (((1 * t + -F.2.1 * u) / 2).natAbs : Int) < PB
      rw [m1]
      omega
    | 9, _ =>
      show ((-F.2.2 * u).natAbs : Int) < PB
      rw [Int.neg_mul, Int.natAbs_neg]
      omega
    | 10, _ =>
      show ((F.1 * u).natAbs : Int) < PB
      omega
    | 11, _ =>
      show (((1 * t + F.2.1 * u) / 2).natAbs : Int) < PB
      rw [m2]
      omega
    | i + 12, hj => omega
  · rw [m1, m2]
    generalize pB 1024 = PB at hbig ⊢
    omega
end
