/-! how many forms there are: a table that the kernel reckons -/
/-- F x, with x reckoned first -/
noncomputable def frc (F : Nat → Nat) (x : Nat) : Nat := Nat.rec (motive := fun _ => Nat) (F 0) (fun n _ => F n) (Nat.add x 1)
theorem frc_eq (F : Nat → Nat) (x : Nat) : frc F x = F x := rfl
noncomputable def sumT (g : Nat → Nat) (k : Nat) : Nat → Nat := Nat.rec (motive := fun _ => Nat → Nat) g (fun k ih j => Nat.add (ih j) (ih (Nat.add j (Nat.pow 2 k)))) k
noncomputable def orT (g : Nat → Nat) (k : Nat) : Nat → Nat := Nat.rec (motive := fun _ => Nat → Nat) g (fun k ih j => Nat.lor (ih j) (ih (Nat.add j (Nat.pow 2 k)))) k
noncomputable def sumB (g : Nat → Nat) (k : Nat) : Nat → Nat → Nat := Nat.rec (motive := fun _ => Nat → Nat → Nat) (fun _ _ => 0) (fun k ih n j => bif Nat.ble (Nat.pow 2 k) n then Nat.add (sumT g k j) (ih (Nat.sub n (Nat.pow 2 k)) (Nat.add j (Nat.pow 2 k))) else ih n j) k
noncomputable def orB (g : Nat → Nat) (k : Nat) : Nat → Nat → Nat := Nat.rec (motive := fun _ => Nat → Nat → Nat) (fun _ _ => 0) (fun k ih n j => bif Nat.ble (Nat.pow 2 k) n then Nat.lor (orT g k j) (ih (Nat.sub n (Nat.pow 2 k)) (Nat.add j (Nat.pow 2 k))) else ih n j) k
def pX (a x : Nat) : Bool := Nat.ble (Nat.add x 1) (Nat.mul 2 a) && (Nat.ble (Nat.mul 4 (Nat.mul a a)) (Nat.add (Nat.mul x x) 1048576) && Nat.ble (Nat.mul 4 (Nat.mul a a)) (Nat.add (Nat.mul (Nat.sub (Nat.mul 2 a) x) (Nat.sub (Nat.mul 2 a) x)) 1048576))
noncomputable def mxS (n lo m : Nat) : Nat := frc Nat.log2 (frc (fun N => orB (fun x => Nat.shiftLeft 1 (Nat.mod (Nat.shiftRight N (Nat.mul 12 (Nat.mod (Nat.pow x 2) m))) 4096)) 11 n lo) (sumB (fun x => Nat.shiftLeft 1 (Nat.mul 12 (Nat.mod (Nat.pow x 2) m))) 11 n lo))
noncomputable def mxX (a n lo m : Nat) : Nat := frc Nat.log2 (frc (fun N => orB (frc (fun x => bif pX a x then Nat.shiftLeft 1 (Nat.mod (Nat.shiftRight N (Nat.mul 12 (Nat.mod (Nat.pow x 2) m))) 4096) else 0)) 11 n lo) (sumB (frc (fun x => bif pX a x then Nat.shiftLeft 1 (Nat.mul 12 (Nat.mod (Nat.pow x 2) m)) else 0)) 11 n lo))
/-- how many middle numbers a first number can have at most -/
noncomputable def mxA (a : Nat) : Nat := bif Nat.ble a 512 then frc (mxS (Nat.mul 2 a) 0) (Nat.mul 4 a) else frc (mxX a (Nat.mul 2 a) 0) (Nat.mul 4 a)
noncomputable def mxR (a : Nat) : Nat := frc mxA a
noncomputable def sRw (lo : Nat) (n : Nat) : Nat := Nat.rec (motive := fun _ => Nat) 0 (fun i ih => Nat.add ih (mxR (Nat.add lo i))) n
def treeL : Nat → Nat → List Nat
  | 0, j => [j]
  | k + 1, j => treeL k j ++ treeL k (j + 2 ^ k)
theorem tree_mem : ∀ (k j x : Nat), x ∈ treeL k j ↔ j ≤ x ∧ x < j + 2 ^ k
  | 0, j, x => by
    show x ∈ [j] ↔ _
    rw [List.mem_singleton]
    have : 2 ^ 0 = 1 := rfl
    omega
  | k + 1, j, x => by
    show x ∈ treeL k j ++ treeL k (j + 2 ^ k) ↔ _
    rw [List.mem_append, tree_mem k j, tree_mem k (j + 2 ^ k)]
    have : 2 ^ (k + 1) = 2 ^ k * 2 := rfl
    omega
theorem tree_len : ∀ (k j : Nat), (treeL k j).length = 2 ^ k
  | 0, _ => rfl
  | k + 1, j => by
    show (treeL k j ++ treeL k (j + 2 ^ k)).length = _
    rw [List.length_append, tree_len k, tree_len k]
    have : 2 ^ (k + 1) = 2 ^ k * 2 := rfl
    omega
def sumL (g : Nat → Nat) : List Nat → Nat
  | [] => 0
  | x :: t => g x + sumL g t
theorem sumL_app (g : Nat → Nat) : ∀ (l m : List Nat), sumL g (l ++ m) = sumL g l + sumL g m
  | [], m => (Nat.zero_add _).symm
  | x :: t, m => by
    show g x + sumL g (t ++ m) = g x + sumL g t + sumL g m
    rw [sumL_app g t m, Nat.add_assoc]
theorem sumT_eq (g : Nat → Nat) : ∀ (k j : Nat), sumT g k j = sumL g (treeL k j)
  | 0, j => (Nat.add_zero _).symm
  | k + 1, j => by
    show sumT g k j + sumT g k (j + 2 ^ k) = sumL g (treeL k j ++ treeL k (j + 2 ^ k))
    rw [sumL_app, sumT_eq g k, sumT_eq g k]
theorem orT_ge (g : Nat → Nat) : ∀ (k j x : Nat), x ∈ treeL k j → g x ≤ orT g k j
  | 0, j, x, h => by
    rw [show treeL 0 j = [j] from rfl, List.mem_singleton] at h
    subst h
    exact Nat.le_refl _
  | k + 1, j, x, h => by
    show g x ≤ orT g k j ||| orT g k (j + 2 ^ k)
    rcases List.mem_append.1 h with z | z
    · exact Nat.le_trans (orT_ge g k j x z) Nat.left_le_or
    · exact Nat.le_trans (orT_ge g k _ x z) Nat.right_le_or
/-- the numbers j to j + n - 1 -/
def segL : Nat → Nat → Nat → List Nat
  | 0, _, _ => []
  | k + 1, n, j => bif Nat.ble (2 ^ k) n then treeL k j ++ segL k (n - 2 ^ k) (j + 2 ^ k) else segL k n j
theorem seg_mem : ∀ (k n j x : Nat), n < 2 ^ k → (x ∈ segL k n j ↔ j ≤ x ∧ x < j + n)
  | 0, n, j, x, h => by
    have : 2 ^ 0 = 1 := rfl
    show x ∈ [] ↔ _
    constructor
    · intro z
      cases z
    · omega
  | k + 1, n, j, x, h => by
    have e : 2 ^ (k + 1) = 2 ^ k * 2 := rfl
    show x ∈ (bif Nat.ble (2 ^ k) n then treeL k j ++ segL k (n - 2 ^ k) (j + 2 ^ k) else segL k n j) ↔ _
    cases hb : Nat.ble (2 ^ k) n with
    | true =>
      have hb' := Nat.le_of_ble_eq_true hb
      show x ∈ treeL k j ++ segL k (n - 2 ^ k) (j + 2 ^ k) ↔ _
      rw [List.mem_append, tree_mem, seg_mem k (n - 2 ^ k) (j + 2 ^ k) x (by omega)]
      omega
    | false =>
      have hb' : ¬ 2 ^ k ≤ n := fun z => by
        rw [Nat.ble_eq_true_of_le z] at hb
        cases hb
      exact seg_mem k n j x (by omega)
theorem seg_len : ∀ (k n j : Nat), n < 2 ^ k → (segL k n j).length = n
  | 0, n, j, h => by
    have : 2 ^ 0 = 1 := rfl
    show 0 = n
    omega
  | k + 1, n, j, h => by
    have e : 2 ^ (k + 1) = 2 ^ k * 2 := rfl
    show (bif Nat.ble (2 ^ k) n then treeL k j ++ segL k (n - 2 ^ k) (j + 2 ^ k) else segL k n j).length = _
    cases hb : Nat.ble (2 ^ k) n with
    | true =>
      have hb' := Nat.le_of_ble_eq_true hb
      show (treeL k j ++ segL k (n - 2 ^ k) (j + 2 ^ k)).length = _
      rw [List.length_append, tree_len, seg_len k (n - 2 ^ k) (j + 2 ^ k) (by omega)]
      omega
    | false =>
      have hb' : ¬ 2 ^ k ≤ n := fun z => by
        rw [Nat.ble_eq_true_of_le z] at hb
        cases hb
      exact seg_len k n j (by omega)
theorem sumB_eq (g : Nat → Nat) : ∀ (k n j : Nat), sumB g k n j = sumL g (segL k n j)
  | 0, _, _ => rfl
  | k + 1, n, j => by
    show (bif Nat.ble (2 ^ k) n then sumT g k j + sumB g k (n - 2 ^ k) (j + 2 ^ k) else sumB g k n j) = sumL g (bif Nat.ble (2 ^ k) n then treeL k j ++ segL k (n - 2 ^ k) (j + 2 ^ k) else segL k n j)
    cases Nat.ble (2 ^ k) n with
    | true =>
      show sumT g k j + sumB g k (n - 2 ^ k) (j + 2 ^ k) = sumL g (treeL k j ++ segL k (n - 2 ^ k) (j + 2 ^ k))
      rw [sumL_app, sumT_eq, sumB_eq g k]
    | false => exact sumB_eq g k n j
theorem orB_ge (g : Nat → Nat) : ∀ (k n j x : Nat), x ∈ segL k n j → g x ≤ orB g k n j
  | 0, _, _, x, h => by cases h
  | k + 1, n, j, x, h => by
    have h' : x ∈ (bif Nat.ble (2 ^ k) n then treeL k j ++ segL k (n - 2 ^ k) (j + 2 ^ k) else segL k n j) := h
    show g x ≤ (bif Nat.ble (2 ^ k) n then orT g k j ||| orB g k (n - 2 ^ k) (j + 2 ^ k) else orB g k n j)
    clear h
    cases hb : Nat.ble (2 ^ k) n with
    | true =>
      rw [hb] at h'
      show g x ≤ orT g k j ||| orB g k (n - 2 ^ k) (j + 2 ^ k)
      rcases List.mem_append.1 h' with z | z
      · exact Nat.le_trans (orT_ge g k j x z) Nat.left_le_or
      · exact Nat.le_trans (orB_ge g k _ _ x z) Nat.right_le_or
    | false =>
      rw [hb] at h'
      exact orB_ge g k n j x h'
theorem dig_lo {S lo C K L P X Q : Nat} (h1 : S = lo + C * P + K * Q) (h2 : lo * 4096 ≤ L * P) (h : X * 4096 ≤ P) : ∃ lo' K', X + S = lo' + C * P + K' * Q ∧ lo' * 4096 ≤ (L + 1) * P := by
  have e1 : (X + lo) * 4096 = X * 4096 + lo * 4096 := Nat.add_mul X lo 4096
  have e2 : (L + 1) * P = L * P + P := Nat.succ_mul L P
  refine ⟨X + lo, K, by rw [h1]; omega, ?_⟩
  rw [e1, e2]
  exact Nat.le_trans (Nat.add_le_add h h2) (Nat.le_of_eq (Nat.add_comm _ _))
theorem dig_eqc {S lo C K L P : Nat} (h1 : S = lo + C * P + K * (P * 4096)) (h2 : lo * 4096 ≤ L * P) : ∃ lo' K', P + S = lo' + (C + 1) * P + K' * (P * 4096) ∧ lo' * 4096 ≤ (L + 1) * P := ⟨lo, K, by rw [Nat.add_mul]; omega, by have e2 : (L + 1) * P = L * P + P := Nat.succ_mul L P; omega⟩
theorem dig_hi {S lo C K L P X Q : Nat} (h1 : S = lo + C * P + K * Q) (h2 : lo * 4096 ≤ L * P) : ∃ lo' K', X * Q + S = lo' + C * P + K' * Q ∧ lo' * 4096 ≤ (L + 1) * P := ⟨lo, K + X, by rw [Nat.add_mul, h1]; omega, by have e2 : (L + 1) * P = L * P + P := Nat.succ_mul L P; omega⟩
/-- the digits of a sum of powers are counts -/
theorem dig_inv (p : Nat → Bool) (f : Nat → Nat) (c : Nat) : ∀ l : List Nat, ∃ lo K, sumL (fun x => bif p x then 2 ^ (12 * f x) else 0) l = lo + (l.filter (fun x => p x && decide (f x = c))).length * 2 ^ (12 * c) + K * (2 ^ (12 * c) * 4096) ∧ lo * 4096 ≤ l.length * 2 ^ (12 * c)
  | [] => ⟨0, 0, by simp [sumL], by simp⟩
  | x :: t => by
    obtain ⟨lo, K, h1, h2⟩ := dig_inv p f c t
    have hsum : sumL (fun x => bif p x then 2 ^ (12 * f x) else 0) (x :: t) = (bif p x then 2 ^ (12 * f x) else 0) + sumL (fun x => bif p x then 2 ^ (12 * f x) else 0) t := rfl
    have hlen : (x :: t).length = t.length + 1 := rfl
    rw [hsum, hlen]
    cases hp : p x with
    | false =>
      have e : (x :: t).filter (fun x => p x && decide (f x = c)) = t.filter (fun x => p x && decide (f x = c)) := List.filter_cons_of_neg (by rw [hp]; simp)
      rw [e]
      exact dig_lo (X := 0) h1 h2 (by simp)
    | true =>
      show ∃ lo' K', 2 ^ (12 * f x) + _ = _ ∧ _
      rcases Nat.lt_trichotomy (f x) c with z | z | z
      · have e : (x :: t).filter (fun x => p x && decide (f x = c)) = t.filter (fun x => p x && decide (f x = c)) := List.filter_cons_of_neg (by rw [hp]; simp; omega)
        rw [e]
        refine dig_lo h1 h2 ?_
        have e1 : 2 ^ (12 * f x) * 4096 = 2 ^ (12 * (f x + 1)) := by rw [Nat.mul_add, Nat.pow_add]
        rw [e1]
        exact Nat.pow_le_pow_right (by decide) (by omega)
      · have e : (x :: t).filter (fun x => p x && decide (f x = c)) = x :: t.filter (fun x => p x && decide (f x = c)) := List.filter_cons_of_pos (by rw [hp, z]; simp)
        rw [e, z]
        exact dig_eqc h1 h2
      · have e : (x :: t).filter (fun x => p x && decide (f x = c)) = t.filter (fun x => p x && decide (f x = c)) := List.filter_cons_of_neg (by rw [hp]; simp; omega)
        rw [e]
        have e1 : 2 ^ (12 * f x) = 2 ^ (12 * (f x - c - 1)) * (2 ^ (12 * c) * 4096) := by
          rw [show (4096 : Nat) = 2 ^ 12 from rfl, ← Nat.pow_add, ← Nat.pow_add]
          congr 1
          omega
        rw [e1]
        exact dig_hi h1 h2
theorem dig_eq (p : Nat → Bool) (f : Nat → Nat) (c : Nat) {l : List Nat} (hl : l.length < 4096) : sumL (fun x => bif p x then 2 ^ (12 * f x) else 0) l / 2 ^ (12 * c) % 4096 = (l.filter (fun x => p x && decide (f x = c))).length := by
  obtain ⟨lo, K, h1, h2⟩ := dig_inv p f c l
  have hc : (l.filter (fun x => p x && decide (f x = c))).length ≤ l.length := List.length_filter_le _ _
  obtain ⟨C, hC⟩ : ∃ C, (l.filter (fun x => p x && decide (f x = c))).length = C := ⟨_, rfl⟩
  obtain ⟨P, hP⟩ : ∃ P, 2 ^ (12 * c) = P := ⟨_, rfl⟩
  have hP0 : 0 < P := by rw [← hP]; exact Nat.pow_pos (by decide)
  rw [hC] at h1 hc ⊢
  rw [hP] at h1 h2 ⊢
  have hlo : lo < P := by
    have : l.length * P < 4096 * P := Nat.mul_lt_mul_of_pos_right hl hP0
    omega
  have e : lo + C * P + K * (P * 4096) = lo + P * (C + 4096 * K) := by grind
  rw [h1, e, Nat.add_mul_div_left _ _ hP0, Nat.div_eq_of_lt hlo, Nat.zero_add, Nat.add_mul_mod_self_left, Nat.mod_eq_of_lt (by omega)]
theorem mx_ge (p : Nat → Bool) (f : Nat → Nat) {k n lo : Nat} (c : Nat) (hn : n < 2 ^ k) (h4 : n < 4096) {N : Nat} (eN : sumB (fun x => bif p x then 2 ^ (12 * f x) else 0) k n lo = N) : ((segL k n lo).filter (fun x => p x && decide (f x = c))).length ≤ Nat.log2 (orB (fun x => bif p x then 2 ^ (N / 2 ^ (12 * f x) % 4096) else 0) k n lo) := by
  have hl : (segL k n lo).length < 4096 := by
    rw [seg_len k n lo hn]
    exact h4
  have hd := dig_eq p f c hl
  rw [← sumB_eq, eN] at hd
  rw [← hd]
  rcases Nat.eq_zero_or_pos (N / 2 ^ (12 * c) % 4096) with z | z
  · rw [z]
    exact Nat.zero_le _
  · rw [hd] at z
    obtain ⟨x, hx⟩ := List.exists_mem_of_length_pos z
    obtain ⟨x1, x2⟩ := List.mem_filter.1 hx
    rw [Bool.and_eq_true, decide_eq_true_eq] at x2
    have h1 := orB_ge (fun x => bif p x then 2 ^ (N / 2 ^ (12 * f x) % 4096) else 0) k n lo x x1
    have h2 : 2 ^ (N / 2 ^ (12 * c) % 4096) ≤ orB (fun x => bif p x then 2 ^ (N / 2 ^ (12 * f x) % 4096) else 0) k n lo := by
      refine Nat.le_trans (Nat.le_of_eq ?_) h1
      show _ = (bif p x then 2 ^ (N / 2 ^ (12 * f x) % 4096) else 0)
      rw [x2.1, x2.2]
      rfl
    have h3 : 0 < 2 ^ (N / 2 ^ (12 * c) % 4096) := Nat.pow_pos (by decide)
    exact (Nat.le_log2 (by omega)).2 h2
theorem flt_le {l : List Nat} {p q : Nat → Bool} (h : ∀ x, x ∈ l → p x = true → q x = true) : (l.filter p).length ≤ (l.filter q).length := by
  rw [← List.countP_eq_length_filter, ← List.countP_eq_length_filter]
  exact List.countP_mono_left h
theorem shl_1 (k : Nat) : Nat.shiftLeft 1 k = 2 ^ k := Nat.one_shiftLeft k
theorem shr_d (N k : Nat) : Nat.shiftRight N k = N / 2 ^ k := Nat.shiftRight_eq_div_pow N k
theorem pow_xx (x : Nat) : Nat.pow x 2 = x * x := Nat.pow_two x
theorem mxS_ge {n lo m : Nat} (c : Nat) (hn : n < 2048) : ((segL 11 n lo).filter (fun x => true && decide (x * x % m = c))).length ≤ mxS n lo m := by
  unfold mxS
  rw [frc_eq, frc_eq]
  simp only [shl_1, shr_d, pow_xx]
  exact mx_ge (fun _ => true) (fun x => x * x % m) (k := 11) (n := n) (lo := lo) c hn (by omega) rfl
theorem mxX_ge {a n lo m : Nat} (c : Nat) (hn : n < 2048) : ((segL 11 n lo).filter (fun x => pX a x && decide (x * x % m = c))).length ≤ mxX a n lo m := by
  unfold mxX
  rw [frc_eq, frc_eq]
  simp only [shl_1, shr_d, pow_xx]
  exact mx_ge (pX a) (fun x => x * x % m) (k := 11) (n := n) (lo := lo) c hn (by omega) rfl
theorem mxR_ge {a : Nat} (h : 0 < a ∧ a ≤ 1000) (c : Nat) : ((segL 11 (2 * a) 0).filter (fun x => pX a x && decide (x * x % (4 * a) = c))).length ≤ mxR a := by
  show _ ≤ (bif Nat.ble a 512 then mxS (2 * a) 0 (4 * a) else mxX a (2 * a) 0 (4 * a))
  cases Nat.ble a 512 with
  | true =>
    refine Nat.le_trans (flt_le ?_) (mxS_ge c (by omega))
    intro x _ hx
    rw [Bool.and_eq_true] at hx
    rw [hx.2]
    rfl
  | false => exact mxX_ge c (by omega)
theorem pX_iff (a x : Nat) : pX a x = true ↔ x < 2 * a ∧ 4 * (a * a) ≤ x * x + 1048576 ∧ 4 * (a * a) ≤ (2 * a - x) * (2 * a - x) + 1048576 := by
  show (Nat.ble (x + 1) (2 * a) && (Nat.ble (4 * (a * a)) (x * x + 1048576) && Nat.ble (4 * (a * a)) ((2 * a - x) * (2 * a - x) + 1048576))) = true ↔ _
  rw [Bool.and_eq_true, Bool.and_eq_true, Nat.ble_eq, Nat.ble_eq, Nat.ble_eq]
  exact Iff.rfl
/-- middle numbers in a window -/
theorem win_cnt {d : Int} {a : Nat} (ha : 0 < a ∧ a ≤ 1000) {l : List Int} (hnd : l.Nodup) (s : Int) (hw : ∀ b, b ∈ l → s ≤ b ∧ b < s + 2 * a) (hd : ∀ b, b ∈ l → (4 * (a : Int)) ∣ b * b - d) (hp : ∀ b, b ∈ l → pX a (b % (2 * a)).toNat = true) : l.length ≤ mxR a := by
  have hx : ∀ b : Int, ((b % (2 * a)).toNat : Int) = b % (2 * a) := fun b => Int.toNat_of_nonneg (Int.emod_nonneg _ (by omega))
  have h1 := len_sub (l.map (fun b : Int => (b % (2 * a)).toNat)) ((segL 11 (2 * a) 0).filter (fun x => pX a x && decide (x * x % (4 * a) = (d % (4 * a)).toNat))) ?_ ?_
  · rw [List.length_map] at h1
    exact Nat.le_trans h1 (mxR_ge ha _)
  · rw [List.Nodup, List.pairwise_map]
    refine List.Pairwise.imp_of_mem ?_ hnd
    intro b b' hb hb' hne z
    have z' : b % (2 * a) = b' % (2 * a) := by rw [← hx b, ← hx b', z]
    have dv : (2 * (a : Int)) ∣ b - b' := Int.dvd_of_emod_eq_zero (Int.emod_eq_emod_iff_emod_sub_eq_zero.1 z')
    obtain ⟨q, hq⟩ := dv
    have w1 := hw b hb
    have w2 := hw b' hb'
    have q0 : q = 0 := by
      rcases Int.lt_trichotomy q 0 with y | y | y
      · have : 2 * (a : Int) * q ≤ 2 * (a : Int) * (-1) := Int.mul_le_mul_of_nonneg_left (by omega) (by omega)
        omega
      · exact y
      · have : 2 * (a : Int) * 1 ≤ 2 * (a : Int) * q := Int.mul_le_mul_of_nonneg_left (by omega) (by omega)
        omega
    rw [q0, Int.mul_zero] at hq
    exact hne (by omega)
  · intro x hxm
    obtain ⟨b, hb, rfl⟩ := List.mem_map.1 hxm
    have p1 := hp b hb
    have p2 := ((pX_iff _ _).1 p1).1
    refine List.mem_filter.2 ⟨(seg_mem 11 (2 * a) 0 _ (show 2 * a < 2048 by omega)).2 ⟨Nat.zero_le _, ?_⟩, ?_⟩
    · omega
    · rw [Bool.and_eq_true, decide_eq_true_eq]
      refine ⟨p1, ?_⟩
      have e : (((b % (2 * a)).toNat * (b % (2 * a)).toNat % (4 * a) : Nat) : Int) = ((d % (4 * a)).toNat : Int) := by
        rw [Int.natCast_emod, Int.natCast_mul, hx b, Int.toNat_of_nonneg (Int.emod_nonneg _ (by omega))]
        have e4 : ((4 * a : Nat) : Int) = 4 * (a : Int) := by omega
        rw [e4]
        refine Int.emod_eq_emod_iff_emod_sub_eq_zero.2 (Int.emod_eq_zero_of_dvd ?_)
        obtain ⟨q, hq⟩ := hd b hb
        have hm := Int.mul_ediv_add_emod b (2 * a)
        obtain ⟨Q, hQ⟩ : ∃ Q, b / (2 * (a : Int)) = Q := ⟨_, rfl⟩
        obtain ⟨r, hr⟩ : ∃ r, b % (2 * (a : Int)) = r := ⟨_, rfl⟩
        rw [hQ, hr] at hm
        rw [hr]
        refine ⟨q - Q * r - a * Q * Q, ?_⟩
        have hb2 : b = 2 * (a : Int) * Q + r := hm.symm
        rw [hb2] at hq
        grind
      omega
