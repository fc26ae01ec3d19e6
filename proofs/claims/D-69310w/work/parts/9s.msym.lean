/-! the model: symbols -/
theorem sq_half {p v : Nat} (hp : 0 < p) {x : Nat} (hx : x * x % p = v) : ∃ y, y ≤ p / 2 ∧ y * y % p = v := by
  have hl := Nat.mod_lt x hp
  have e1 : (x % p) * (x % p) % p = v := by rw [← Nat.mul_mod, hx]
  by_cases z : x % p ≤ p / 2
  · exact ⟨x % p, z, e1⟩
  · refine ⟨p - x % p, by omega, ?_⟩
    rw [← e1]
    generalize x % p = y at *
    have e2 : (p - y) * (p - y) + p * (2 * y) = y * y + p * p := by
      obtain ⟨c, hc⟩ : ∃ c, p = y + c := ⟨p - y, by omega⟩
      rw [hc, show y + c - y = c by omega]
      grind
    have h1 : ((p - y) * (p - y) + p * (2 * y)) % p = (y * y + p * p) % p := by rw [e2]
    rwa [Nat.add_mul_mod_self_left, Nat.add_mul_mod_self_left] at h1
/-- FormHouseModel.isSquare(JJ)Z; cuts at [6, 26, 41] -/
def cl_261_1 : List mj_E := (38, false, .lrem, 1, 0, 0, 0, 0, 0) ::
  (39, false, .lstore 4, 2, 0, 0, 0, 0, 0) ::
  (41, true, .lload 6, 2, 0, 0, 0, 0, 0) ::
  (43, false, .lconst 1, 1, 0, 0, 0, 0, jL 1) ::
  (44, false, .ladd, 1, 0, 0, 0, 0, 0) ::
  (45, false, .lstore 6, 2, 0, 0, 0, 0, 0) ::
  (47, false, .goto (-41), 3, 4, 0, 0, 0, 0) ::
  (50, false, .iconst 0, 1, 0, 0, 0, jI 0, 0) ::
  (51, false, .ireturn, 1, 0, 0, 0, 0, 0) ::
  []
def cl_261_0 : List mj_E := (0, false, .lconst 0, 1, 0, 0, 0, 0, jL 0) ::
  (1, false, .lstore 4, 2, 0, 0, 0, 0, 0) ::
  (3, false, .lconst 0, 1, 0, 0, 0, 0, jL 0) ::
  (4, false, .lstore 6, 2, 0, 0, 0, 0, 0) ::
  (6, true, .lload 6, 2, 0, 0, 0, 0, 0) ::
  (8, false, .lload_n 2, 1, 0, 0, 0, 0, 0) ::
  (9, false, .ldc2_w 130, 3, 0, 0, 0, 0, jL 2) ::
  (12, false, .ldiv, 1, 0, 0, 0, 0, 0) ::
  (13, false, .lcmp, 1, 0, 0, 0, 0, 0) ::
  (14, false, .ifCond .gt 36, 3, 31, 0, 0, 0, 0) ::
  (17, false, .lload 4, 2, 0, 0, 0, 0, 0) ::
  (19, false, .lload_n 0, 1, 0, 0, 0, 0, 0) ::
  (20, false, .lcmp, 1, 0, 0, 0, 0, 0) ::
  (21, false, .ifCond .ne 5, 3, 16, 0, 0, 0, 0) ::
  (24, false, .iconst 1, 1, 0, 0, 0, jI 1, 0) ::
  (25, false, .ireturn, 1, 0, 0, 0, 0, 0) ::
  (26, true, .lload 4, 2, 0, 0, 0, 0, 0) ::
  (28, false, .ldc2_w 130, 3, 0, 0, 0, 0, jL 2) ::
  (31, false, .lload 6, 2, 0, 0, 0, 0, 0) ::
  (33, false, .lmul, 1, 0, 0, 0, 0, 0) ::
  (34, false, .ladd, 1, 0, 0, 0, 0, 0) ::
  (35, false, .lconst 1, 1, 0, 0, 0, 0, jL 1) ::
  (36, false, .ladd, 1, 0, 0, 0, 0, 0) ::
  (37, false, .lload_n 2, 1, 0, 0, 0, 0, 0) ::
  cl_261_1
def cd_261 : List mj_E := cl_261_0
def cx_261 : mj_X := (4, [], [])
theorem tb_261 : mj_tab (mj_mt 261) cx_261 cd_261 mj_mh [(0, 0, 0), (0, 0, 0), (0, 0, 0), (0, 0, 0), (0, 0, 0), (0, 0, 0), (6218, 0, 0), (0, 0, 0), (0, 0, 0), (0, 0, 0), (0, 0, 0), (0, 0, 0), (0, 0, 0), (0, 0, 0), (0, 0, 0), (0, 0, 0), (0, 0, 0), (6218, 0, 0), (0, 0, 0), (0, 0, 0), (0, 0, 0), (0, 0, 0), (0, 0, 0), (0, 0, 0), (0, 0, 0), (0, 0, 0), (0, 0, 0), (0, 0, 0), (0, 0, 0), (0, 0, 0), (0, 0, 0), (0, 0, 0), (0, 0, 0)] = true := mj_tab_f (by decide +kernel)
theorem ct_261 (G : mj_G) {v p : Nat} (hp : 1 < p ∧ p ≤ 2147483648) (hv : v < p) (h : mj_H) : mj_Ct G (mj_mt 261) 0 0 [.long (jL (v : Nat)), .long (jL (p : Nat))] h (fun o h' => h' = h ∧ ∃ b : Int, o = .returned (some (.int (jI b))) ∧ ((b = 1 ∧ ∃ x : Nat, x * x % p = v) ∨ (b = 0 ∧ ¬ ∃ x : Nat, x * x % p = v))) := by
  refine mj_Ct_of mj_ok tb_261 rfl rfl (Nat.le_of_ble_eq_true rfl) (fun Run hR => ?_)
  have loop : ∀ (m x : Nat) (sL xL : Int64), x + m = p / 2 + 1 → (∀ y, y < x → y * y % p ≠ v) → sL = jL ((x * x % p : Nat) : Int) → xL = jL (x : Nat) → Run 6 [some (.long (jL (v : Nat))), none, some (.long (jL (p : Nat))), none, some (.long sL), none, some (.long xL), none] [] h (0, 0) := by
    intro m
    induction m with
    | zero =>
      rintro x sL xL hx hn rfl rfl
      refine hR 60 4 _ _ _ _ _ _ rfl ?_
      refine ⟨by decide, fun c => ⟨Or.inl rfl, rfl, 0, rfl, Or.inr ⟨rfl, ?_⟩⟩, fun c => ?_⟩
      · rintro ⟨y, hy⟩
        obtain ⟨w, w1, w2⟩ := sq_half (by omega) hy
        exact hn w (by omega) w2
      · simp only [mj_lcm] at c
        rw [jL_div (by omega) (by omega) (by omega) (by omega), Int.tdiv_eq_ediv_of_nonneg (by omega), jL_lt (by omega) (by omega) (by omega) (by omega)] at c
        omega
    | succ m ih =>
      rintro x sL xL hx hn rfl rfl
      have hl := Nat.mod_lt (x * x) (show 0 < p by omega)
      have r41 : ∀ sL : Int64, x * x % p ≠ v → sL = jL (((x + 1) * (x + 1) % p : Nat) : Int) → Run 41 [some (.long (jL (v : Nat))), none, some (.long (jL (p : Nat))), none, some (.long sL), none, some (.long (jL (x : Nat))), none] [] h (0, 0) := by
        intro sL hne e
        refine hR 60 26 _ _ _ _ _ _ rfl ?_
        refine ih (x + 1) _ _ (by omega) (fun y hy => ?_) e (by rw [jL_add]; rfl)
        by_cases z : y = x
        · rw [z]
          exact hne
        · exact hn y (by omega)
      have r26 : x * x % p ≠ v → Run 26 [some (.long (jL (v : Nat))), none, some (.long (jL (p : Nat))), none, some (.long (jL ((x * x % p : Nat) : Int))), none, some (.long (jL (x : Nat))), none] [] h (0, 0) := by
        intro hne
        have e : (jL ((x * x % p : Nat) : Int) + jL 2 * jL (x : Nat) + jL 1) % jL (p : Nat) = jL (((x + 1) * (x + 1) % p : Nat) : Int) := by
          rw [jL_mul, jL_add, jL_add, jL_mod (by omega) (by omega) (by omega) (by omega), Int.tmod_eq_emod_of_nonneg (by omega)]
          congr 1
          have e2 : (x + 1) * (x + 1) = x * x + (2 * x + 1) := by grind
          rw [e2, show ((x * x % p : Nat) : Int) + 2 * (x : Int) + 1 = ((x * x % p + (2 * x + 1) : Nat) : Int) by omega, ← Int.natCast_emod, Nat.mod_add_mod]
        refine hR 60 16 _ _ _ _ _ _ rfl ?_
        refine ⟨?_, ?_⟩
        · show ¬ jL (p : Nat) = jL 0
          rw [jL_eq (by omega) (by omega) (by omega) (by omega)]
          omega
        · rw [e]
          exact r41 _ hne rfl
      refine hR 60 4 _ _ _ _ _ _ rfl ?_
      refine ⟨by decide, fun c => ?_, fun c => ⟨fun c2 => ⟨Or.inr rfl, ?_⟩, fun c2 => ?_⟩⟩
      · simp only [mj_lcm] at c
        rw [jL_div (by omega) (by omega) (by omega) (by omega), Int.tdiv_eq_ediv_of_nonneg (by omega), jL_lt (by omega) (by omega) (by omega) (by omega)] at c
        omega
      · rw [jL_eq (by omega) (by omega) (by omega) (by omega)] at c2
        exact ⟨rfl, 1, rfl, Or.inl ⟨rfl, x, by omega⟩⟩
      · rw [jL_eq (by omega) (by omega) (by omega) (by omega)] at c2
        exact r26 (by omega)
  refine hR 60 0 _ _ _ _ _ _ rfl ?_
  refine loop (p / 2 + 1) 0 _ _ (by omega) (fun y hy => by omega) ?_ rfl
  rw [Nat.zero_mul, Nat.zero_mod]
  rfl
theorem leg_sq {p v : Nat} (hp : Pr p) (h2 : p % 2 = 1) (hv : v % p ≠ 0) (hvl : v < p) : legN v p = 1 ↔ ∃ x : Nat, x * x % p = v := by
  have hnd : ¬ p ∣ v := fun z => hv (Nat.mod_eq_zero_of_dvd z)
  have e : legN v p = sgN (muN v p) := by
    unfold legN
    rw [if_neg hv]
  have sq : isSqm v p ↔ ∃ x : Nat, x * x % p = v := by
    unfold isSqm
    rw [Nat.mod_eq_of_lt hvl]
  rw [e, ← sq]
  exact ⟨fun z => euler_non hp h2 hnd z, fun z => euler_sq hp h2 hnd z⟩
theorem leg_pm {p v : Nat} (hv : v % p ≠ 0) : legN v p = 1 ∨ legN v p = -1 := by
  unfold legN
  rw [if_neg hv]
  exact sgN_pm _
theorem ct_261' (G : mj_G) {v p : Nat} (hp : Pr p) (h2 : p % 2 = 1) (hpb : p ≤ 2147483648) (hv : v < p) (hv0 : v ≠ 0) (h : mj_H) : mj_Ct G (mj_mt 261) 0 0 [.long (jL (v : Nat)), .long (jL (p : Nat))] h (jR (.int (jI (if legN v p = 1 then 1 else 0))) h) := by
  have hp1 := hp.1
  have ls := leg_sq hp h2 (by rw [Nat.mod_eq_of_lt hv]; exact hv0) hv
  refine mj_Ct_mono (ct_261 G (by omega) hv h) ?_
  rintro o h' ⟨rfl, b, rfl, hb⟩
  rcases hb with ⟨rfl, q⟩ | ⟨rfl, q⟩
  · rw [if_pos (ls.2 q)]
    exact ⟨rfl, rfl⟩
  · rw [if_neg (fun z => q (ls.1 z))]
    exact ⟨rfl, rfl⟩
/-- the symbol of a prime -/
def syN (d : Int) (p : Nat) : Int := if p = 2 then (if d % 2 = 0 then 0 else if d % 8 = 1 ∨ d % 8 = 7 then 1 else -1) else legN (d % (p : Int)).toNat p
/-- FormHouseModel.symbol(J)I; cuts at [72] -/
def cl_260_2 : List mj_E := (94, false, .iconst (-1), 1, 0, 0, 0, jI (-1), 0) ::
  (95, false, .ireturn, 1, 0, 0, 0, 0, 0) ::
  []
def cl_260_1 : List mj_E := (50, false, .ldc2_w 434, 3, 0, 0, 0, 0, jL 7) ::
  (53, false, .lcmp, 1, 0, 0, 0, 0, 0) ::
  (54, false, .ifCond .ne 7, 3, 29, 0, 0, 0, 0) ::
  (57, false, .iconst 1, 1, 0, 0, 0, jI 1, 0) ::
  (58, false, .goto 4, 3, 30, 0, 0, 0, 0) ::
  (61, false, .iconst (-1), 1, 0, 0, 0, jI (-1), 0) ::
  (62, false, .ireturn, 1, 0, 0, 0, 0, 0) ::
  (63, false, .aload_n 0, 1, 0, 0, 0, 0, 0) ::
  (64, false, .getfield 9, 3, 17, 1, 1, 0, 0) ::
  (67, false, .lload_n 1, 1, 0, 0, 0, 0, 0) ::
  (68, false, .invokestatic 143, 3, 200, 2, 0, 0, 0) ::
  (71, false, .lstore_n 3, 1, 0, 0, 0, 0, 0) ::
  (72, true, .lload_n 3, 1, 0, 0, 0, 0, 0) ::
  (73, false, .lconst 0, 1, 0, 0, 0, 0, jL 0) ::
  (74, false, .lcmp, 1, 0, 0, 0, 0, 0) ::
  (75, false, .ifCond .ne 7, 3, 42, 0, 0, 0, 0) ::
  (78, false, .iconst 0, 1, 0, 0, 0, jI 0, 0) ::
  (79, false, .goto 16, 3, 49, 0, 0, 0, 0) ::
  (82, false, .lload_n 3, 1, 0, 0, 0, 0, 0) ::
  (83, false, .lload_n 1, 1, 0, 0, 0, 0, 0) ::
  (84, false, .invokestatic 436, 3, 261, 2, 0, 0, 0) ::
  (87, false, .ifCond .eq 7, 3, 48, 0, 0, 0, 0) ::
  (90, false, .iconst 1, 1, 0, 0, 0, jI 1, 0) ::
  (91, false, .goto 4, 3, 49, 0, 0, 0, 0) ::
  cl_260_2
def cl_260_0 : List mj_E := (0, false, .lload_n 1, 1, 0, 0, 0, 0, 0) ::
  (1, false, .ldc2_w 130, 3, 0, 0, 0, 0, jL 2) ::
  (4, false, .lcmp, 1, 0, 0, 0, 0, 0) ::
  (5, false, .ifCond .ne 58, 3, 31, 0, 0, 0, 0) ::
  (8, false, .aload_n 0, 1, 0, 0, 0, 0, 0) ::
  (9, false, .getfield 9, 3, 17, 1, 1, 0, 0) ::
  (12, false, .ldc2_w 130, 3, 0, 0, 0, 0, jL 2) ::
  (15, false, .lrem, 1, 0, 0, 0, 0, 0) ::
  (16, false, .lconst 0, 1, 0, 0, 0, 0, jL 0) ::
  (17, false, .lcmp, 1, 0, 0, 0, 0, 0) ::
  (18, false, .ifCond .ne 7, 3, 13, 0, 0, 0, 0) ::
  (21, false, .iconst 0, 1, 0, 0, 0, jI 0, 0) ::
  (22, false, .goto 40, 3, 30, 0, 0, 0, 0) ::
  (25, false, .aload_n 0, 1, 0, 0, 0, 0, 0) ::
  (26, false, .getfield 9, 3, 17, 1, 1, 0, 0) ::
  (29, false, .ldc2_w 432, 3, 0, 0, 0, 0, jL 8) ::
  (32, false, .invokestatic 143, 3, 200, 2, 0, 0, 0) ::
  (35, false, .lconst 1, 1, 0, 0, 0, 0, jL 1) ::
  (36, false, .lcmp, 1, 0, 0, 0, 0, 0) ::
  (37, false, .ifCond .eq 20, 3, 27, 0, 0, 0, 0) ::
  (40, false, .aload_n 0, 1, 0, 0, 0, 0, 0) ::
  (41, false, .getfield 9, 3, 17, 1, 1, 0, 0) ::
  (44, false, .ldc2_w 432, 3, 0, 0, 0, 0, jL 8) ::
  (47, false, .invokestatic 143, 3, 200, 2, 0, 0, 0) ::
  cl_260_1
def cd_260 : List mj_E := cl_260_0
def cx_260 : mj_X := (1, [], [])
theorem tb_260 : mj_tab (mj_mt 260) cx_260 cd_260 mj_mh [(0, 0, 0), (6218, 0, 0), (0, 0, 0), (0, 0, 0), (0, 0, 0), (7100, 0, 0), (6218, 0, 0), (0, 0, 0), (0, 0, 0), (0, 0, 0), (0, 0, 0), (0, 0, 0), (0, 0, 0), (0, 0, 0), (7100, 0, 0), (8195, 0, 0), (7007, 0, 0), (0, 0, 0), (0, 0, 0), (0, 0, 0), (0, 0, 0), (7100, 0, 0), (8195, 0, 0), (7007, 0, 0), (8196, 0, 0), (0, 0, 0), (0, 0, 0), (0, 0, 0), (0, 0, 0), (0, 0, 0), (0, 0, 0), (0, 0, 0), (7100, 0, 0), (0, 0, 0), (7007, 0, 0), (0, 0, 0), (0, 0, 0), (0, 0, 0), (0, 0, 0), (0, 0, 0), (0, 0, 0), (0, 0, 0), (0, 0, 0), (0, 0, 0), (8197, 0, 0), (0, 0, 0), (0, 0, 0), (0, 0, 0), (0, 0, 0), (0, 0, 0)] = true := mj_tab_f (by decide +kernel)
theorem ct_260 (G : mj_G) {h : mj_H} (L : isLam h) {d w : Int} (hw : isMw h d w) (hd : -1099511627776 < d ∧ d < 1099511627776) {p : Nat} (hp : Pr p) (hpb : p ≤ 2147483648) : mj_Ct G (mj_mt 260) 0 0 [.ref 1412, .long (jL (p : Nat))] h (jR (.int (jI (syN d p))) h) := by
  have k := L.K 1412 rfl
  have hp1 := hp.1
  have q0 : 0 ≤ d % (p : Int) := Int.emod_nonneg _ (by omega)
  have q1 : d % (p : Int) < p := Int.emod_lt_of_pos _ (by omega)
  have c8 := ct_200 G (x := d) (y := 8) (by omega) (by omega) (by omega) (by omega) h
  rw [← hw.1] at c8
  have e8 : 0 ≤ d % 8 ∧ d % 8 < 8 := ⟨Int.emod_nonneg _ (by decide), Int.emod_lt_of_pos _ (by decide)⟩
  refine mj_Ct_of mj_ok tb_260 rfl rfl (Nat.le_of_ble_eq_true rfl) (fun Run hR => ?_)
  have r72 : p ≠ 2 → ∀ vL : Int64, vL = jL (d % (p : Int)) → Run 72 [some (.ref 1412), some (.long (jL (p : Nat))), none, some (.long vL), none] [] h (0, 0) := by
    rintro hp2 vL rfl
    have hodd : p % 2 = 1 := by
      rcases (show p % 2 = 0 ∨ p % 2 = 1 by omega) with z | z
      · rcases hp.2 2 (Nat.dvd_of_mod_eq_zero z) with q | q
        · omega
        · omega
      · exact z
    have es : syN d p = legN (d % (p : Int)).toNat p := by
      unfold syN
      rw [if_neg hp2]
    refine hR 60 36 _ _ _ _ _ _ rfl ?_
    refine ⟨fun c => ?_, fun c => ?_⟩
    · have c' : jL (d % (p : Int)) = jL 0 := c
      rw [jL_eq (by omega) (by omega) (by omega) (by omega)] at c'
      refine jRe ?_
      rw [es, c']
      unfold legN
      rw [show Int.toNat 0 = 0 from rfl, if_pos (Nat.zero_mod _)]
    · have c' : ¬ jL (d % (p : Int)) = jL 0 := c
      rw [jL_eq (by omega) (by omega) (by omega) (by omega)] at c'
      have hv : (d % (p : Int)).toNat < p := by omega
      have hv0 : (d % (p : Int)).toNat ≠ 0 := by omega
      have c261 := ct_261' G hp hodd hpb hv hv0 h
      rw [Int.toNat_of_nonneg q0] at c261
      refine jcall c261 ?_
      have pm := leg_pm (v := (d % (p : Int)).toNat) (p := p) (by rw [Nat.mod_eq_of_lt hv]; exact hv0)
      by_cases z : legN (d % (p : Int)).toNat p = 1
      · rw [if_pos z]
        exact ⟨fun c => absurd c (by decide), fun c => jRe (by rw [es, z])⟩
      · rw [if_neg z]
        rcases pm with q | q
        · exact absurd q z
        · exact ⟨fun c => jRe (by rw [es, q]), fun c => absurd rfl c⟩
  refine hR 60 0 _ _ _ _ _ _ rfl ?_
  refine ⟨fun c => ?_, fun c => ⟨k, ?_⟩⟩
  · rw [jL_eq (by omega) (by omega) (by omega) (by omega)] at c
    have hp2 : p = 2 := by omega
    have es : syN d p = if d % 2 = 0 then 0 else if d % 8 = 1 ∨ d % 8 = 7 then 1 else -1 := by
      unfold syN
      rw [if_pos hp2]
    have htm := tmod_abs d 2
    have ed : hJ h 1412 1 % jL 2 = jL (d.tmod 2) := by rw [hw.1, jL_mod (by omega) (by omega) (by omega) (by omega)]
    have hz : d.tmod 2 = 0 ↔ d % 2 = 0 := by
      constructor
      · intro q
        exact Int.emod_eq_zero_of_dvd (Int.dvd_of_tmod_eq_zero q)
      · intro q
        exact Int.tmod_eq_zero_of_dvd (Int.dvd_of_emod_eq_zero q)
    rw [es]
    refine ⟨k, by decide, fun c2 => ?_, fun c2 => ⟨k, jcall c8 ⟨fun c3 => ?_, fun c3 => ⟨k, jcall c8 ⟨fun c4 => ?_, fun c4 => ?_⟩⟩⟩⟩⟩
    · have c2' : hJ h 1412 1 % jL 2 = jL 0 := c2
      rw [ed, jL_eq (by omega) (by omega) (by omega) (by omega)] at c2'
      rw [if_pos (hz.1 c2')]
      exact jRe rfl
    · have c2' : ¬ hJ h 1412 1 % jL 2 = jL 0 := c2
      rw [ed, jL_eq (by omega) (by omega) (by omega) (by omega)] at c2'
      simp only [mj_lcm] at c3
      have c3' : jL (d % 8) = jL 1 := c3
      rw [jL_eq (by omega) (by omega) (by omega) (by omega)] at c3'
      rw [if_neg (fun q => c2' (hz.2 q)), if_pos (Or.inl c3')]
      exact jRe rfl
    · have c2' : ¬ hJ h 1412 1 % jL 2 = jL 0 := c2
      rw [ed, jL_eq (by omega) (by omega) (by omega) (by omega)] at c2'
      rw [jL_eq (by omega) (by omega) (by omega) (by omega)] at c4
      rw [if_neg (fun q => c2' (hz.2 q)), if_pos (Or.inr c4)]
      exact jRe rfl
    · have c2' : ¬ hJ h 1412 1 % jL 2 = jL 0 := c2
      rw [ed, jL_eq (by omega) (by omega) (by omega) (by omega)] at c2'
      simp only [mj_lcm] at c3
      have c3' : ¬ jL (d % 8) = jL 1 := c3
      rw [jL_eq (by omega) (by omega) (by omega) (by omega)] at c3' c4
      rw [if_neg (fun q => c2' (hz.2 q)), if_neg (by omega)]
      exact jRe rfl
  · rw [jL_eq (by omega) (by omega) (by omega) (by omega)] at c
    have c200 := ct_200 G (x := d) (y := (p : Int)) (by omega) (by omega) (by omega) (by omega) h
    rw [← hw.1] at c200
    refine jcall c200 ?_
    exact r72 (by omega) _ rfl
section
variable {d w : Int} {n : Nat} {A : Nat → pI} {nxt : Nat → Nat} {cls : Nat → Int} {cnt : Nat} {nm : Nat → Nat}
/-- FormHouseModel.character(II)I; cuts at [30, 42, 47, 57] -/
def cl_263_2 : List mj_E := (86, false, .iconst (-1), 1, 0, 0, 0, jI (-1), 0) ::
  (87, false, .ireturn, 1, 0, 0, 0, 0, 0) ::
  []
def cl_263_1 : List mj_E := (42, true, .aload_n 0, 1, 0, 0, 0, 0, 0) ::
  (43, false, .iload_n 1, 1, 0, 0, 0, 0, 0) ::
  (44, false, .invokevirtual 185, 3, 205, 1, 17, 0, 0) ::
  (47, true, .aload_n 0, 1, 0, 0, 0, 0, 0) ::
  (48, false, .aload_n 0, 1, 0, 0, 0, 0, 0) ::
  (49, false, .getfield 51, 3, 17, 18, 2, 0, 0) ::
  (52, false, .iload_n 2, 1, 0, 0, 0, 0, 0) ::
  (53, false, .laload, 1, 0, 0, 0, 0, 0) ::
  (54, false, .invokevirtual 189, 3, 206, 1, 17, 0, 0) ::
  (57, true, .aload_n 0, 1, 0, 0, 0, 0, 0) ::
  (58, false, .getfield 132, 3, 17, 50, 1, 0, 0) ::
  (61, false, .aload_n 0, 1, 0, 0, 0, 0, 0) ::
  (62, false, .getfield 51, 3, 17, 18, 2, 0, 0) ::
  (65, false, .iload_n 2, 1, 0, 0, 0, 0, 0) ::
  (66, false, .laload, 1, 0, 0, 0, 0, 0) ::
  (67, false, .invokestatic 143, 3, 200, 2, 0, 0, 0) ::
  (70, false, .aload_n 0, 1, 0, 0, 0, 0, 0) ::
  (71, false, .getfield 51, 3, 17, 18, 2, 0, 0) ::
  (74, false, .iload_n 2, 1, 0, 0, 0, 0, 0) ::
  (75, false, .laload, 1, 0, 0, 0, 0, 0) ::
  (76, false, .invokestatic 436, 3, 261, 2, 0, 0, 0) ::
  (79, false, .ifCond .eq 7, 3, 48, 0, 0, 0, 0) ::
  (82, false, .iconst 1, 1, 0, 0, 0, jI 1, 0) ::
  (83, false, .goto 4, 3, 49, 0, 0, 0, 0) ::
  cl_263_2
def cl_263_0 : List mj_E := (0, false, .aload_n 0, 1, 0, 0, 0, 0, 0) ::
  (1, false, .aload_n 0, 1, 0, 0, 0, 0, 0) ::
  (2, false, .iload_n 1, 1, 0, 0, 0, 0, 0) ::
  (3, false, .invokevirtual 448, 3, 264, 1, 17, 0, 0) ::
  (6, false, .ifCond .eq 23, 3, 17, 0, 0, 0, 0) ::
  (9, false, .iload_n 2, 1, 0, 0, 0, 0, 0) ::
  (10, false, .i2l, 1, 0, 0, 0, 0, 0) ::
  (11, false, .lconst 0, 1, 0, 0, 0, 0, jL 0) ::
  (12, false, .aload_n 0, 1, 0, 0, 0, 0, 0) ::
  (13, false, .getfield 227, 3, 17, 17, 0, 0, 0) ::
  (16, false, .iconst 1, 1, 0, 0, 0, jI 1, 0) ::
  (17, false, .isub, 1, 0, 0, 0, 0, 0) ::
  (18, false, .i2l, 1, 0, 0, 0, 0, 0) ::
  (19, false, .invokestatic 244, 3, 225, 3, 0, 0, 0) ::
  (22, false, .ifCond .eq 7, 3, 17, 0, 0, 0, 0) ::
  (25, false, .iconst 0, 1, 0, 0, 0, jI 0, 0) ::
  (26, false, .goto 4, 3, 18, 0, 0, 0, 0) ::
  (29, false, .iconst 1, 1, 0, 0, 0, jI 1, 0) ::
  (30, true, .putfield 120, 3, 17, 0, 0, 0, 0) ::
  (33, false, .aload_n 0, 1, 0, 0, 0, 0, 0) ::
  (34, false, .getfield 120, 3, 17, 0, 0, 0, 0) ::
  (37, false, .ifCond .le 5, 3, 24, 0, 0, 0, 0) ::
  (40, false, .iconst 0, 1, 0, 0, 0, jI 0, 0) ::
  (41, false, .ireturn, 1, 0, 0, 0, 0, 0) ::
  cl_263_1
def cd_263 : List mj_E := cl_263_0
def cx_263 : mj_X := (1, [], [])
theorem tb_263 : mj_tab (mj_mt 263) cx_263 cd_263 mj_mh [(0, 0, 0), (0, 0, 0), (0, 0, 0), (8208, 0, 0), (0, 0, 0), (0, 0, 0), (0, 0, 0), (0, 0, 0), (0, 0, 0), (7116, 0, 0), (0, 0, 0), (0, 0, 0), (0, 0, 0), (8044, 0, 0), (0, 0, 0), (0, 0, 0), (0, 0, 0), (0, 0, 0), (7099, 0, 0), (0, 0, 0), (7099, 0, 0), (0, 0, 0), (0, 0, 0), (0, 0, 0), (0, 0, 0), (0, 0, 0), (7026, 0, 0), (0, 0, 0), (0, 0, 0), (7117, 0, 0), (0, 0, 0), (0, 0, 0), (7030, 0, 0), (0, 0, 0), (7149, 0, 0), (0, 0, 0), (7117, 0, 0), (0, 0, 0), (0, 0, 0), (7007, 0, 0), (0, 0, 0), (7117, 0, 0), (0, 0, 0), (0, 0, 0), (8197, 0, 0), (0, 0, 0), (0, 0, 0), (0, 0, 0), (0, 0, 0), (0, 0, 0)] = true := mj_tab_f (by decide +kernel)
theorem ct_263 (G : mj_G) {h : mj_H} (L : isLam h) (T : isTF d w n A nxt cls cnt nm) (hT : isMT h d w n A cls cnt nm) {ps : List Nat} (hp : isMp h ps) (hpp : ∀ p, p ∈ ps → Pr p ∧ p % 2 = 1 ∧ p ≤ 1048576) (hfr : ∀ c p, c < cnt → p ∈ ps → fr7 (nmF d A nm c) (p : Nat)) (hbd : ∀ c, c < cnt → (nmF d A nm c).2.2.natAbs ≤ 1048576) {i j : Int} (hi : -2147483648 ≤ i ∧ i < 2147483648) (hj : -2147483648 ≤ j ∧ j < 2147483648) : mj_Ct G (mj_mt 263) 0 0 [.ref 1412, .int (jI i), .int (jI j)] h (fun oc h' => ((0 ≤ i ∧ i < cnt) → ∀ p, 0 ≤ j → ps[j.toNat]? = some p → ∃ g, Eqv (nmF d A nm i.toNat) g ∧ Int.gcd g.1 (p : Nat) = 1 ∧ jB (legN (g.1 % (p : Int)).toNat p) 0 h oc h') ∧ (¬ ((0 ≤ i ∧ i < cnt) ∧ 0 ≤ j ∧ j < ps.length) → jB 0 1 h oc h')) := by
  have k := L.K 1412 rfl
  have hcnt := T.1.2.2.2.2.2.1
  have hd := T.1.2.2.1
  have h8 := hp.2.1
  have F0 := FrM.code h (jI 0)
  have L0 := F0.lay L
  have hT0 := hT.M F0 ⟨by omega, by omega⟩ ⟨by omega, by omega⟩ (fun _ _ z => z)
  refine mj_Ct_of mj_ok tb_263 rfl rfl (Nat.le_of_ble_eq_true rfl) (fun Run hR => ?_)
  have bad : ¬ ((0 ≤ i ∧ i < cnt) ∧ 0 ≤ j ∧ j < ps.length) → Run 30 [some (.ref 1412), some (.int (jI i)), some (.int (jI j))] [.int (jI 1), .ref 1412] h (0, 0) := by
    intro z
    refine hR 60 18 _ _ _ _ _ _ rfl ?_
    refine ⟨k, k, fun c2 => absurd c2 (cd1 h), fun c2 => ⟨fun q1 p q2 q3 => absurd ⟨q1, q2, ?_⟩ z, fun _ => ⟨rfl, sI_at _ _ _ _, FrM.code h _⟩⟩⟩
    have := lt_of_some q3
    omega
  refine hR 60 0 _ _ _ _ _ _ rfl ?_
  refine ⟨k, jcall (ct_264 G L hT.2.1.1 hcnt hi) ?_⟩
  by_cases z : 0 ≤ i ∧ i < cnt
  · rw [if_pos z]
    refine ⟨fun c => absurd c (by decide), fun c => ⟨k, jcall (in_fld G hp.1 (by omega) hj) ?_⟩⟩
    by_cases z' : 0 ≤ j ∧ j < ps.length
    · rw [if_pos z']
      have hm1 := T.2.2.2.1 i.toNat (by omega)
      obtain ⟨p, hpj⟩ : ∃ p, ps[j.toNat]? = some p := ⟨_, List.getElem?_eq_getElem (by omega)⟩
      have hpm : p ∈ ps := List.mem_iff_getElem?.2 ⟨_, hpj⟩
      obtain ⟨pp, podd, pb⟩ := hpp p hpm
      have pp1 := pp.1
      obtain ⟨y0, k0, hy0, hk0, hex⟩ := hfr i.toNat p (by omega) hpm
      obtain ⟨-, -, va1, va2⟩ := T.2.1 _ hm1.1
      have hb3 := hbd i.toNat (by omega)
      obtain ⟨f, hf⟩ : ∃ f, f = nmF d A nm i.toNat := ⟨_, rfl⟩
      have hf1 : f.1 = (A (nm i.toNat)).1 ∧ f.2.1 = (A (nm i.toNat)).2 := by
        rw [hf]
        exact ⟨rfl, rfl⟩
      rw [← hf] at hex hb3
      obtain ⟨vj, ej⟩ := nat_in (h := h) (c := 1422) (i := j) (n := ps.length) (L.N 1421 rfl) h8 (by decide) z'
      have e22 : ∀ {h' : mj_H}, FrM iCo jF noT h h' → hJ h' 1422 (jI j).toNatClampNeg = jL (p : Nat) := by
        intro h' F
        rw [ej]
        exact (F.J (by decide) (fun q => q) _).trans (hp.2.2 _ p hpj)
      have vjM : ∀ {h' : mj_H}, FrM iCo jF noT h h' → vp_in (jI j) (hN h' 1422) := by
        intro h' F
        rw [F.fr.N]
        exact vj
      have r57 : ∀ (h3 : mj_H) (g : Fm), isMm h3 g → frG f g → Int.gcd g.1 (p : Nat) = 1 → hI h3 1412 0 = jI 0 → FrM iCo jF noT h h3 → Run 57 [some (.ref 1412), some (.int (jI i)), some (.int (jI j))] [] h3 (0, 0) := by
        intro h3 g mg fg gc code F3
        have L3 := F3.lay L
        have gb := (frG_bd fg (A := 1048576) (C := 1048576) (by omega) (by omega) hb3).1
        have q0 : 0 ≤ g.1 % (p : Int) := Int.emod_nonneg _ (by omega)
        have q1 : g.1 % (p : Int) < p := Int.emod_lt_of_pos _ (by omega)
        have c200 := ct_200 G (x := g.1) (y := (p : Int)) (by omega) (by omega) (by omega) (by omega) h3
        rw [← mg.1, ← e22 F3] at c200
        have hv : (g.1 % (p : Int)).toNat < p := by omega
        have hv0 : (g.1 % (p : Int)).toNat ≠ 0 := by
          intro q
          have h9 : (p : Int) ∣ g.1 := Int.dvd_of_emod_eq_zero (by omega)
          have h10 : p ∣ Int.gcd g.1 (p : Nat) := Int.dvd_gcd h9 (Int.dvd_refl _)
          rw [gc] at h10
          have := Nat.le_of_dvd (by decide) h10
          omega
        have c261 := ct_261' G pp podd (by omega) hv hv0 h3
        rw [Int.toNat_of_nonneg q0, ← e22 F3] at c261
        have pm := leg_pm (v := (g.1 % (p : Int)).toNat) (p := p) (by rw [Nat.mod_eq_of_lt hv]; exact hv0)
        have fin : ∀ v : Int, v = legN (g.1 % (p : Int)).toNat p → (fun oc h' => ((0 ≤ i ∧ i < cnt) → ∀ p, 0 ≤ j → ps[j.toNat]? = some p → ∃ g, Eqv (nmF d A nm i.toNat) g ∧ Int.gcd g.1 (p : Nat) = 1 ∧ jB (legN (g.1 % (p : Int)).toNat p) 0 h oc h') ∧ (¬ ((0 ≤ i ∧ i < cnt) ∧ 0 ≤ j ∧ j < ps.length) → jB 0 1 h oc h')) (Outcome.returned (some (.int (jI v)))) h3 := by
          rintro v rfl
          refine ⟨fun _ p' _ hp' => ?_, fun q => absurd ⟨z, z'⟩ q⟩
          have : p' = p := by
            rw [hpj] at hp'
            exact (Option.some.inj hp').symm
          subst this
          exact ⟨g, hf ▸ frG_eqv fg, gc, rfl, code, F3⟩
        refine hR 60 33 _ _ _ _ _ _ rfl ?_
        refine ⟨L3.K 1412 rfl, L3.K 1412 rfl, _, L3.R 1412 18 _ rfl, L3.K 1422 rfl, vjM F3, jcall c200 ⟨L3.K 1412 rfl, _, L3.R 1412 18 _ rfl, L3.K 1422 rfl, vjM F3, jcall c261 ?_⟩⟩
        by_cases zz : legN (g.1 % (p : Int)).toNat p = 1
        · rw [if_pos zz]
          exact ⟨fun c => absurd c (by decide), fun c => fin 1 zz.symm⟩
        · rw [if_neg zz]
          rcases pm with q | q
          · exact absurd q zz
          · exact ⟨fun c => fin (-1) q.symm, fun c => absurd rfl c⟩
      have r47 : ∀ (h3 : mj_H), isMm h3 f → hI h3 1412 0 = jI 0 → FrM iCo jF noT h h3 → Run 47 [some (.ref 1412), some (.int (jI i)), some (.int (jI j))] [] h3 (0, 0) := by
        intro h3 m3 code F3
        have L3 := F3.lay L
        have c206 := ct_206 G L3 m3 (by omega) (n := (p : Nat)) (by omega) hy0 hk0 hex
        rw [← e22 F3] at c206
        refine hR 60 27 _ _ _ _ _ _ rfl ?_
        refine ⟨L3.K 1412 rfl, _, L3.R 1412 18 _ rfl, L3.K 1422 rfl, vjM F3, L3.K 1412 rfl, jcallP c206 ?_⟩
        rintro oc h4 ⟨rfl, ⟨g, a1, a2, a3⟩, F4⟩
        exact r57 h4 g a1 a2 a3 ((F4.2.2.1 0 (fun q => q)).trans code) (F3.trans (F4.mono (fun _ q => q.elim) (fun _ q => q) (fun _ q => q)))
      have r42 : Run 42 [some (.ref 1412), some (.int (jI i)), some (.int (jI j))] [] (sI h 1412 0 (jI 0)) (0, 0) := by
        have c205 := ct_205 G L0 hT0.1 hT0.2.1 hT0.2.2 (by omega) (c := i.toNat) (by omega) hcnt hm1.1 (T.1.2.2.2.2.2.2.2 _ hm1.1).2.1
        rw [show ((i.toNat : Nat) : Int) = i by omega] at c205
        refine hR 60 24 _ _ _ _ _ _ rfl ?_
        refine ⟨L0.K 1412 rfl, jcallP c205 ?_⟩
        rintro oc h3 ⟨rfl, m3, F3⟩
        exact r47 h3 (hf ▸ m3) ((F3.2.2.1 0 (fun q => q)).trans (sI_at _ _ _ _)) (F0.trans (F3.mono (fun _ q => q.elim) (fun _ q => q) (fun _ q => q)))
      have r30 : Run 30 [some (.ref 1412), some (.int (jI i)), some (.int (jI j))] [.int (jI 0), .ref 1412] h (0, 0) := by
        refine hR 60 18 _ _ _ _ _ _ rfl ?_
        exact ⟨k, k, fun c2 => r42, fun c2 => absurd (cd0 h) c2⟩
      exact ⟨fun c => absurd c (by decide), fun c => r30⟩
    · rw [if_neg z']
      exact ⟨fun c => bad (fun q => z' q.2), fun c => absurd rfl c⟩
  · rw [if_neg z]
    exact ⟨fun c => bad (fun q => z q.1), fun c => absurd rfl c⟩
end
