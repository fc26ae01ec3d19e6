/-! ints and longs as numbers: jI, jL are ring maps; what compares or divides wants ranges -/
def jI (n : Int) : Int32 := Int32.ofInt n
def jL (n : Int) : Int64 := Int64.ofInt n
theorem jI_add (a b : Int) : jI a + jI b = jI (a + b) := (Int32.ofInt_add a b).symm
theorem jI_sub (a b : Int) : jI a - jI b = jI (a - b) := (Int32.ofInt_sub a b).symm
theorem jI_mul (a b : Int) : jI a * jI b = jI (a * b) := (Int32.ofInt_mul a b).symm
theorem jI_neg (a : Int) : -jI a = jI (-a) := (Int32.ofInt_neg a).symm
theorem jL_add (a b : Int) : jL a + jL b = jL (a + b) := (Int64.ofInt_add a b).symm
theorem jL_sub (a b : Int) : jL a - jL b = jL (a - b) := (Int64.ofInt_sub a b).symm
theorem jL_mul (a b : Int) : jL a * jL b = jL (a * b) := (Int64.ofInt_mul a b).symm
theorem jL_neg (a : Int) : -jL a = jL (-a) := (Int64.ofInt_neg a).symm
theorem jI_to {a : Int} (h : -2147483648 ≤ a) (h' : a < 2147483648) : (jI a).toInt = a := Int32.toInt_ofInt_of_le h h'
theorem jL_to {a : Int} (h : -9223372036854775808 ≤ a) (h' : a < 9223372036854775808) : (jL a).toInt = a := Int64.toInt_ofInt_of_le h h'
theorem jI_of (x : Int32) : jI x.toInt = x := Int32.ofInt_toInt x
theorem jL_of (x : Int64) : jL x.toInt = x := Int64.ofInt_toInt x
theorem jI_rg (x : Int32) : -2147483648 ≤ x.toInt ∧ x.toInt < 2147483648 := ⟨Int32.le_toInt x, Int32.toInt_lt x⟩
theorem jL_rg (x : Int64) : -9223372036854775808 ≤ x.toInt ∧ x.toInt < 9223372036854775808 := ⟨Int64.le_toInt x, Int64.toInt_lt x⟩
theorem jI_lt {a b : Int} (h : -2147483648 ≤ a) (h' : a < 2147483648) (g : -2147483648 ≤ b) (g' : b < 2147483648) : (jI a < jI b) ↔ a < b := by
  rw [Int32.lt_iff_toInt_lt, jI_to h h', jI_to g g']
theorem jI_le {a b : Int} (h : -2147483648 ≤ a) (h' : a < 2147483648) (g : -2147483648 ≤ b) (g' : b < 2147483648) : (jI a ≤ jI b) ↔ a ≤ b := by
  rw [Int32.le_iff_toInt_le, jI_to h h', jI_to g g']
theorem jI_eq {a b : Int} (h : -2147483648 ≤ a) (h' : a < 2147483648) (g : -2147483648 ≤ b) (g' : b < 2147483648) : (jI a = jI b) ↔ a = b := by
  rw [← Int32.toInt_inj, jI_to h h', jI_to g g']
theorem jL_lt {a b : Int} (h : -9223372036854775808 ≤ a) (h' : a < 9223372036854775808) (g : -9223372036854775808 ≤ b) (g' : b < 9223372036854775808) : (jL a < jL b) ↔ a < b := by
  rw [Int64.lt_iff_toInt_lt, jL_to h h', jL_to g g']
theorem jL_le {a b : Int} (h : -9223372036854775808 ≤ a) (h' : a < 9223372036854775808) (g : -9223372036854775808 ≤ b) (g' : b < 9223372036854775808) : (jL a ≤ jL b) ↔ a ≤ b := by
  rw [Int64.le_iff_toInt_le, jL_to h h', jL_to g g']
theorem jL_eq {a b : Int} (h : -9223372036854775808 ≤ a) (h' : a < 9223372036854775808) (g : -9223372036854775808 ≤ b) (g' : b < 9223372036854775808) : (jL a = jL b) ↔ a = b := by
  rw [← Int64.toInt_inj, jL_to h h', jL_to g g']
theorem jI_0 : (0 : Int32) = jI 0 := rfl
theorem jI_1 : (1 : Int32) = jI 1 := rfl
theorem jL_0 : (0 : Int64) = jL 0 := rfl
theorem jI_lt0 {a : Int} (h : -2147483648 ≤ a) (h' : a < 2147483648) : (jI a < 0) ↔ a < 0 := jI_lt (b := 0) h h' (by decide) (by decide)
theorem jI_0le {a : Int} (h : -2147483648 ≤ a) (h' : a < 2147483648) : (0 ≤ jI a) ↔ 0 ≤ a := jI_le (a := 0) (by decide) (by decide) h h'
theorem jI_0lt {a : Int} (h : -2147483648 ≤ a) (h' : a < 2147483648) : (0 < jI a) ↔ 0 < a := jI_lt (a := 0) (by decide) (by decide) h h'
theorem jI_le0 {a : Int} (h : -2147483648 ≤ a) (h' : a < 2147483648) : (jI a ≤ 0) ↔ a ≤ 0 := jI_le (b := 0) h h' (by decide) (by decide)
theorem jI_eq0 {a : Int} (h : -2147483648 ≤ a) (h' : a < 2147483648) : (jI a = 0) ↔ a = 0 := jI_eq (b := 0) h h' (by decide) (by decide)
theorem jL_eq0 {a : Int} (h : -9223372036854775808 ≤ a) (h' : a < 9223372036854775808) : (jL a = 0) ↔ a = 0 := jL_eq (b := 0) h h' (by decide) (by decide)
theorem jI_div {a b : Int} (h : -2147483648 < a) (h' : a < 2147483648) (g : -2147483648 ≤ b) (g' : b < 2147483648) : jI a / jI b = jI (a.tdiv b) := by
  apply Int32.toInt_inj.mp
  rw [Int32.toInt_div_of_ne_left, jI_to (by omega) h', jI_to g g', jI_to]
  · have := Int.natAbs_tdiv_le_natAbs a b
    omega
  · have := Int.natAbs_tdiv_le_natAbs a b
    omega
  · intro e
    have e2 := congrArg Int32.toInt e
    rw [jI_to (by omega) h', Int32.toInt_minValue] at e2
    omega
theorem jL_div {a b : Int} (h : -9223372036854775808 < a) (h' : a < 9223372036854775808) (g : -9223372036854775808 ≤ b) (g' : b < 9223372036854775808) : jL a / jL b = jL (a.tdiv b) := by
  apply Int64.toInt_inj.mp
  rw [Int64.toInt_div_of_ne_left, jL_to (by omega) h', jL_to g g', jL_to]
  · have := Int.natAbs_tdiv_le_natAbs a b
    omega
  · have := Int.natAbs_tdiv_le_natAbs a b
    omega
  · intro e
    have e2 := congrArg Int64.toInt e
    rw [jL_to (by omega) h', Int64.toInt_minValue] at e2
    omega
theorem tmod_abs (a b : Int) : (a.tmod b).natAbs ≤ a.natAbs := by rw [Int.natAbs_tmod]; exact Nat.mod_le _ _
theorem jI_mod {a b : Int} (h : -2147483648 < a) (h' : a < 2147483648) (g : -2147483648 ≤ b) (g' : b < 2147483648) : jI a % jI b = jI (a.tmod b) := by
  apply Int32.toInt_inj.mp
  rw [Int32.toInt_mod, jI_to (by omega) h', jI_to g g', jI_to]
  · have := tmod_abs a b
    omega
  · have := tmod_abs a b
    omega
theorem jL_mod {a b : Int} (h : -9223372036854775808 < a) (h' : a < 9223372036854775808) (g : -9223372036854775808 ≤ b) (g' : b < 9223372036854775808) : jL a % jL b = jL (a.tmod b) := by
  apply Int64.toInt_inj.mp
  rw [Int64.toInt_mod, jL_to (by omega) h', jL_to g g', jL_to]
  · have := tmod_abs a b
    omega
  · have := tmod_abs a b
    omega
theorem jI_L {a : Int} (h : -2147483648 ≤ a) (h' : a < 2147483648) : (jI a).toInt64 = jL a := Int32.toInt64_ofInt h (by show a ≤ 2147483647; omega)
theorem jL_I (a : Int) : (jL a).toInt32 = jI a := Int64.toInt32_ofInt
theorem jI_nat {a : Int} (h : 0 ≤ a) (h' : a < 2147483648) : (jI a).toNatClampNeg = a.toNat := Int32.toNatClampNeg_ofInt_of_le (by omega) h'
theorem jI_in {a : Int} {n : Nat} (h : 0 ≤ a) (h' : a < 2147483648) (hn : a < n) : vp_in (jI a) n := by
  intro q
  rw [jI_nat h h'] at q
  rcases q with q | q
  · have := (jI_lt0 (by omega) h').mp q
    omega
  · omega
/-! shifts and masks -/
theorem jL_bv (a : Int) : (jL a).toBitVec = BitVec.ofInt 64 a := rfl
theorem jI_bv (a : Int) : (jI a).toBitVec = BitVec.ofInt 32 a := rfl
theorem jL_sc : ∀ k : Nat, k < 64 → (((jI k).toInt64 &&& 63).toBitVec.smod 64) = BitVec.ofNat 64 k := by decide +kernel
theorem jI_sc : ∀ k : Nat, k < 32 → ((jI k &&& 31).toBitVec.smod 32) = BitVec.ofNat 32 k := by decide +kernel
theorem jL_uc : ∀ k : Nat, k < 64 → ((jI k).toInt64.toUInt64 &&& Int64.toUInt64 63) = UInt64.ofNat k := by decide +kernel
theorem jI_uc : ∀ k : Nat, k < 32 → ((jI k).toUInt32 &&& Int32.toUInt32 31) = UInt32.ofNat k := by decide +kernel
theorem jL_ext {x : Int64} {a : Int} (h : x.toBitVec.toNat = (a % 18446744073709551616).toNat) : x = jL a := by
  apply Int64.toBitVec_inj.mp
  apply BitVec.eq_of_toNat_eq
  rw [h, jL_bv, BitVec.toNat_ofInt]
  rfl
theorem jI_ext {x : Int32} {a : Int} (h : x.toBitVec.toNat = (a % 4294967296).toNat) : x = jI a := by
  apply Int32.toBitVec_inj.mp
  apply BitVec.eq_of_toNat_eq
  rw [h, jI_bv, BitVec.toNat_ofInt]
  rfl
theorem jL_tn (a : Int) : (jL a).toBitVec.toNat = (a % 18446744073709551616).toNat := by
  rw [jL_bv, BitVec.toNat_ofInt]
  rfl
theorem jI_tn (a : Int) : (jI a).toBitVec.toNat = (a % 4294967296).toNat := by
  rw [jI_bv, BitVec.toNat_ofInt]
  rfl
theorem jL_shr0 {a : Int} (h : -9223372036854775808 ≤ a) (h' : a < 9223372036854775808) {k : Nat} (hk : k < 64) : jL a >>> ((jI k).toInt64 &&& 63) = jL (a / 2 ^ k) := by
  apply Int64.toInt_inj.mp
  have hb : (jL a >>> ((jI k).toInt64 &&& 63)).toBitVec = (jL a).toBitVec.sshiftRight k := by
    rw [Int64.toBitVec_shiftRight, jL_sc k hk]
    show BitVec.sshiftRight _ (BitVec.ofNat 64 k).toNat = _
    rw [BitVec.toNat_ofNat, Nat.mod_eq_of_lt (by omega)]
  have h2 : (0 : Int) < 2 ^ k := Int.pow_pos (by decide)
  rw [← Int64.toInt_toBitVec, hb, BitVec.toInt_sshiftRight, Int64.toInt_toBitVec, jL_to h h', Int.shiftRight_eq_div_pow, jL_to]
  · rfl
  · have h3 : (1 : Int) ≤ 2 ^ k := h2
    have := Int.ediv_le_ediv h2 h
    have h4 : -9223372036854775808 ≤ (-9223372036854775808 : Int) / 2 ^ k := by
      apply Int.le_ediv_of_mul_le h2
      have := Int.mul_le_mul_of_nonpos_left (a := -9223372036854775808) (b := (2 : Int) ^ k) (c := 1) (by decide) h3
      omega
    omega
  · rcases Int.lt_or_le a 0 with z | z
    · have := Int.ediv_neg_of_neg_of_pos z h2
      omega
    · exact Int.lt_of_le_of_lt (Int.ediv_le_self _ z) h'
theorem jL_ushr0 {a : Int} {k : Nat} (hk : k < 64) : ((jL a).toUInt64 >>> ((jI k).toInt64.toUInt64 &&& Int64.toUInt64 63)).toInt64 = jL (a % 18446744073709551616 / 2 ^ k) := by
  apply jL_ext
  rw [jL_uc k hk]
  have e : (((jL a).toUInt64 >>> UInt64.ofNat k).toInt64).toBitVec.toNat = (jL a).toBitVec.toNat >>> k := by
    show ((jL a).toUInt64 >>> UInt64.ofNat k).toNat = _
    rw [UInt64.toNat_shiftRight]
    congr 1
    show k % 2 ^ 64 % 64 = k
    omega
  rw [e, jL_tn, Nat.shiftRight_eq_div_pow]
  have h0 : 0 ≤ a % 18446744073709551616 := Int.emod_nonneg _ (by decide)
  have h1 : a % 18446744073709551616 < 18446744073709551616 := Int.emod_lt_of_pos _ (by decide)
  generalize a % 18446744073709551616 = b at h0 h1
  obtain ⟨n, rfl⟩ := Int.eq_ofNat_of_zero_le h0
  have h2 : ((n : Int) / 2 ^ k) = ((n / 2 ^ k : Nat) : Int) := by
    rw [Int.natCast_ediv, Int.natCast_pow]
    rfl
  have h3 : n / 2 ^ k ≤ n := Nat.div_le_self _ _
  rw [h2, Int.toNat_natCast]
  generalize n / 2 ^ k = q at h3
  omega
theorem jL_mask {a : Int} {k : Nat} (hk : k < 64) {m : Int} (hm : m = 2 ^ k - 1) : jL a &&& jL m = jL (a % 2 ^ k) := by
  apply jL_ext
  have e : (jL a &&& jL m).toBitVec.toNat = (jL a).toBitVec.toNat &&& (2 ^ k - 1) := by
    rw [Int64.toBitVec_and, BitVec.toNat_and]
    congr 1
    rw [jL_tn, hm]
    have h1 : 2 ^ k < 2 ^ 64 := Nat.pow_lt_pow_right (by decide) hk
    have h2 : (2 : Int) ^ k = ((2 ^ k : Nat) : Int) := by rw [Int.natCast_pow]; rfl
    have h3 : 0 < 2 ^ k := Nat.pow_pos (by decide)
    rw [h2]
    generalize 2 ^ k = q at h1 h3
    omega
  rw [e, Nat.and_two_pow_sub_one_eq_mod, jL_tn]
  have h2 : (2 : Int) ^ k = ((2 ^ k : Nat) : Int) := by rw [Int.natCast_pow]; rfl
  have h4 : (2 : Nat) ^ 64 = 2 ^ k * 2 ^ (64 - k) := by rw [← Nat.pow_add]; congr 1; omega
  have h0 : 0 ≤ a % 18446744073709551616 := Int.emod_nonneg _ (by decide)
  have h5 : a % 2 ^ k = (a % 18446744073709551616) % 2 ^ k := by
    rw [Int.emod_emod_of_dvd]
    refine ⟨((2 ^ (64 - k) : Nat) : Int), ?_⟩
    rw [h2, ← Int.natCast_mul, ← h4]
    rfl
  rw [h5]
  have h1 : a % 18446744073709551616 < 18446744073709551616 := Int.emod_lt_of_pos _ (by decide)
  generalize a % 18446744073709551616 = b at h0 h1
  obtain ⟨n, rfl⟩ := Int.eq_ofNat_of_zero_le h0
  rw [h2, ← Int.natCast_emod]
  have h6 : n % 2 ^ k ≤ n := Nat.mod_le _ _
  show n % 2 ^ k = _
  generalize n % 2 ^ k = q at h6
  omega
theorem jI_mask {a : Int} {k : Nat} (hk : k < 32) {m : Int} (hm : m = 2 ^ k - 1) : jI a &&& jI m = jI (a % 2 ^ k) := by
  apply jI_ext
  have e : (jI a &&& jI m).toBitVec.toNat = (jI a).toBitVec.toNat &&& (2 ^ k - 1) := by
    rw [Int32.toBitVec_and, BitVec.toNat_and]
    congr 1
    rw [jI_tn, hm]
    have h1 : 2 ^ k < 2 ^ 32 := Nat.pow_lt_pow_right (by decide) hk
    have h2 : (2 : Int) ^ k = ((2 ^ k : Nat) : Int) := by rw [Int.natCast_pow]; rfl
    have h3 : 0 < 2 ^ k := Nat.pow_pos (by decide)
    rw [h2]
    generalize 2 ^ k = q at h1 h3
    omega
  rw [e, Nat.and_two_pow_sub_one_eq_mod, jI_tn]
  have h2 : (2 : Int) ^ k = ((2 ^ k : Nat) : Int) := by rw [Int.natCast_pow]; rfl
  have h4 : (2 : Nat) ^ 32 = 2 ^ k * 2 ^ (32 - k) := by rw [← Nat.pow_add]; congr 1; omega
  have h0 : 0 ≤ a % 4294967296 := Int.emod_nonneg _ (by decide)
  have h5 : a % 2 ^ k = (a % 4294967296) % 2 ^ k := by
    rw [Int.emod_emod_of_dvd]
    refine ⟨((2 ^ (32 - k) : Nat) : Int), ?_⟩
    rw [h2, ← Int.natCast_mul, ← h4]
    rfl
  rw [h5]
  have h1 : a % 4294967296 < 4294967296 := Int.emod_lt_of_pos _ (by decide)
  generalize a % 4294967296 = b at h0 h1
  obtain ⟨n, rfl⟩ := Int.eq_ofNat_of_zero_le h0
  rw [h2, ← Int.natCast_emod]
  have h6 : n % 2 ^ k ≤ n := Nat.mod_le _ _
  show n % 2 ^ k = _
  generalize n % 2 ^ k = q at h6
  omega
theorem jL_shl0 {a : Int} {k : Nat} (hk : k < 64) : jL a <<< ((jI k).toInt64 &&& 63) = jL (a * 2 ^ k) := by
  apply Int64.toBitVec_inj.mp
  rw [Int64.toBitVec_shiftLeft, jL_sc k hk, jL_bv, jL_bv, BitVec.ofInt_mul]
  show (BitVec.ofInt 64 a) <<< (BitVec.ofNat 64 k).toNat = _
  rw [BitVec.toNat_ofNat, Nat.mod_eq_of_lt (by omega), BitVec.shiftLeft_eq_mul_twoPow]
  congr 1
  apply BitVec.eq_of_toNat_eq
  rw [BitVec.toNat_twoPow, BitVec.toNat_ofInt]
  have h2 : (2 : Int) ^ k = ((2 ^ k : Nat) : Int) := by rw [Int.natCast_pow]; rfl
  rw [h2]
  omega
theorem jI_shl0 {a : Int} {k : Nat} (hk : k < 32) : jI a <<< (jI k &&& 31) = jI (a * 2 ^ k) := by
  apply Int32.toBitVec_inj.mp
  rw [Int32.toBitVec_shiftLeft, jI_sc k hk, jI_bv, jI_bv, BitVec.ofInt_mul]
  show (BitVec.ofInt 32 a) <<< (BitVec.ofNat 32 k).toNat = _
  rw [BitVec.toNat_ofNat, Nat.mod_eq_of_lt (by omega), BitVec.shiftLeft_eq_mul_twoPow]
  congr 1
  apply BitVec.eq_of_toNat_eq
  rw [BitVec.toNat_twoPow, BitVec.toNat_ofInt]
  have h2 : (2 : Int) ^ k = ((2 ^ k : Nat) : Int) := by rw [Int.natCast_pow]; rfl
  rw [h2]
  omega
theorem jI_shr0 {a : Int} (h : -2147483648 ≤ a) (h' : a < 2147483648) {k : Nat} (hk : k < 32) : jI a >>> (jI k &&& 31) = jI (a / 2 ^ k) := by
  apply Int32.toInt_inj.mp
  have hb : (jI a >>> (jI k &&& 31)).toBitVec = (jI a).toBitVec.sshiftRight k := by
    rw [Int32.toBitVec_shiftRight, jI_sc k hk]
    show BitVec.sshiftRight _ (BitVec.ofNat 32 k).toNat = _
    rw [BitVec.toNat_ofNat, Nat.mod_eq_of_lt (by omega)]
  have h2 : (0 : Int) < 2 ^ k := Int.pow_pos (by decide)
  rw [← Int32.toInt_toBitVec, hb, BitVec.toInt_sshiftRight, Int32.toInt_toBitVec, jI_to h h', Int.shiftRight_eq_div_pow, jI_to]
  · rfl
  · have h3 : (1 : Int) ≤ 2 ^ k := h2
    have := Int.ediv_le_ediv h2 h
    have h4 : -2147483648 ≤ (-2147483648 : Int) / 2 ^ k := by
      apply Int.le_ediv_of_mul_le h2
      have := Int.mul_le_mul_of_nonpos_left (a := -2147483648) (b := (2 : Int) ^ k) (c := 1) (by decide) h3
      omega
    omega
  · rcases Int.lt_or_le a 0 with z | z
    · have := Int.ediv_neg_of_neg_of_pos z h2
      omega
    · exact Int.lt_of_le_of_lt (Int.ediv_le_self _ z) h'
theorem jI_ushr0 {a : Int} {k : Nat} (hk : k < 32) : ((jI a).toUInt32 >>> ((jI k).toUInt32 &&& Int32.toUInt32 31)).toInt32 = jI (a % 4294967296 / 2 ^ k) := by
  apply jI_ext
  rw [jI_uc k hk]
  have e : (((jI a).toUInt32 >>> UInt32.ofNat k).toInt32).toBitVec.toNat = (jI a).toBitVec.toNat >>> k := by
    show ((jI a).toUInt32 >>> UInt32.ofNat k).toNat = _
    rw [UInt32.toNat_shiftRight]
    congr 1
    show k % 2 ^ 32 % 32 = k
    omega
  rw [e, jI_tn, Nat.shiftRight_eq_div_pow]
  have h0 : 0 ≤ a % 4294967296 := Int.emod_nonneg _ (by decide)
  have h1 : a % 4294967296 < 4294967296 := Int.emod_lt_of_pos _ (by decide)
  generalize a % 4294967296 = b at h0 h1
  obtain ⟨n, rfl⟩ := Int.eq_ofNat_of_zero_le h0
  have h2 : ((n : Int) / 2 ^ k) = ((n / 2 ^ k : Nat) : Int) := by
    rw [Int.natCast_ediv, Int.natCast_pow]
    rfl
  have h3 : n / 2 ^ k ≤ n := Nat.div_le_self _ _
  rw [h2, Int.toNat_natCast]
  generalize n / 2 ^ k = q at h3
  omega
theorem jL_or {a b : Int} {k : Nat} (hk : k < 64) (hb : 0 ≤ b) (hb' : b < 2 ^ k) : jL (a * 2 ^ k) ||| jL b = jL (a * 2 ^ k + b) := by
  rw [← jL_add]
  apply Int64.toBitVec_inj.mp
  rw [Int64.toBitVec_or, Int64.toBitVec_add]
  symm
  apply BitVec.add_eq_or_of_and_eq_zero
  rw [← jL_shl0 hk, Int64.toBitVec_shiftLeft, jL_sc k hk]
  apply BitVec.eq_of_getLsbD_eq
  intro i hi
  rw [BitVec.getLsbD_and]
  show (((BitVec.ofInt 64 a) <<< (BitVec.ofNat 64 k).toNat).getLsbD i && (jL b).toBitVec.getLsbD i) = _
  rw [BitVec.toNat_ofNat, Nat.mod_eq_of_lt (by omega), BitVec.getLsbD_shiftLeft, BitVec.getLsbD_zero]
  by_cases hik : i < k
  · simp [hik]
  · have hz : (jL b).toBitVec.getLsbD i = false := by
      show (jL b).toBitVec.toNat.testBit i = false
      rw [jL_tn]
      have h1 : (2 : Int) ^ k = ((2 ^ k : Nat) : Int) := by rw [Int.natCast_pow]; rfl
      have h2 : 2 ^ k ≤ 2 ^ i := Nat.pow_le_pow_right (by decide) (by omega)
      have h3 : 2 ^ k ≤ 2 ^ 63 := Nat.pow_le_pow_right (by decide) (by omega)
      apply Nat.testBit_lt_two_pow
      rw [h1] at hb'
      generalize 2 ^ k = q at h1 h2 h3 hb'
      omega
    rw [hz, Bool.and_false]
theorem jL_shr {a K : Int} (k : Nat) (hk : k < 64) (hK : K = k) (h : -9223372036854775808 ≤ a) (h' : a < 9223372036854775808) : jL a >>> ((jI K).toInt64 &&& 63) = jL (a / 2 ^ k) := by subst hK; exact jL_shr0 h h' hk
theorem jL_ushr {a K : Int} (k : Nat) (hk : k < 64) (hK : K = k) : ((jL a).toUInt64 >>> ((jI K).toInt64.toUInt64 &&& Int64.toUInt64 63)).toInt64 = jL (a % 18446744073709551616 / 2 ^ k) := by subst hK; exact jL_ushr0 hk
theorem jL_shl {a K : Int} (k : Nat) (hk : k < 64) (hK : K = k) : jL a <<< ((jI K).toInt64 &&& 63) = jL (a * 2 ^ k) := by subst hK; exact jL_shl0 hk
theorem jI_shr {a K : Int} (k : Nat) (hk : k < 32) (hK : K = k) (h : -2147483648 ≤ a) (h' : a < 2147483648) : jI a >>> (jI K &&& 31) = jI (a / 2 ^ k) := by subst hK; exact jI_shr0 h h' hk
theorem jI_ushr {a K : Int} (k : Nat) (hk : k < 32) (hK : K = k) : ((jI a).toUInt32 >>> ((jI K).toUInt32 &&& Int32.toUInt32 31)).toInt32 = jI (a % 4294967296 / 2 ^ k) := by subst hK; exact jI_ushr0 hk
theorem jI_shl {a K : Int} (k : Nat) (hk : k < 32) (hK : K = k) : jI a <<< (jI K &&& 31) = jI (a * 2 ^ k) := by subst hK; exact jI_shl0 hk
