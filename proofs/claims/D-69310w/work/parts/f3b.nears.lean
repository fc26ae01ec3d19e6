/-! the places, reckoned by the kernel -/
theorem ckA : ckS (30 ^ 9) 3 [2, 3, 5] KK = true := by decide +kernel
theorem ckB : ckS (210 ^ 9) 3 [2, 3, 7] KK = true := by decide +kernel
theorem ckC : ckS (2310 ^ 9) 3 [2, 3, 11] KK = true := by decide +kernel
theorem ckD : ckS (2310 ^ 9) 3 [2, 3] KK = true := by decide +kernel
theorem ckE : ckS (30 ^ 9) 5 [2, 5] KK = true := by decide +kernel
theorem ckF : ckS (30 ^ 9) 5 [3, 5] KK = true := by decide +kernel
theorem ckG : ckS (30 ^ 9) 7 [] KK = true := by decide +kernel
def pvB (u : Nat × Nat) : Bool := Nat.beq (Nat.gcd (dst u.1 64) u.2) 1
def frB (u : Nat × Nat) : Bool := (Nat.beq u.2 1 && (Nat.ble 57 u.1 && Nat.ble u.1 71)) || ((Nat.beq u.2 0 && Nat.beq u.1 63) || (Nat.ble u.2 7 && (Nat.ble 64 (Nat.add (Nat.add u.1 1) (Nat.mul u.2 u.2)) && (Nat.beq (Nat.mod (Nat.sub (Nat.add (Nat.add u.1 1) (Nat.mul u.2 u.2)) 64) u.2) 0 && Nat.ble (Nat.div (Nat.sub (Nat.add (Nat.add u.1 1) (Nat.mul u.2 u.2)) 64) u.2) (Nat.mul 2 u.2)))))
theorem KK_ok : KK.all (fun u => pvB u && frB u) = true := by decide +kernel
