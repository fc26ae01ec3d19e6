/-! the division by two -/
theorem mag_shift (g : Nat → Int32) : ∀ n, mag g (n + 1) = wd (g 0) + 4294967296 * mag (fun i => g (i + 1)) n
  | 0 => by simp [mag]
  | n + 1 => by
    have ih := mag_shift g n
    show mag g (n + 1) + wd (g (n + 1)) * 4294967296 ^ (n + 1) = _
    rw [ih]
    show _ = wd (g 0) + 4294967296 * (mag (fun i => g (i + 1)) n + wd (g (n + 1)) * 4294967296 ^ n)
    rw [Nat.pow_succ]
    generalize 4294967296 ^ n = q
    generalize mag (fun i => g (i + 1)) n = z
    grind
