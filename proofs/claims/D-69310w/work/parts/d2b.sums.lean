/-! the counts, reckoned by the kernel (printed by gen/cnt.py) -/
theorem sRw_0 : sRw 1 32 ≤ 117 := by decide +kernel
theorem sRw_1 : sRw 33 32 ≤ 161 := by decide +kernel
theorem sRw_2 : sRw 65 32 ≤ 179 := by decide +kernel
theorem sRw_3 : sRw 97 32 ≤ 211 := by decide +kernel
theorem sRw_4 : sRw 129 32 ≤ 204 := by decide +kernel
theorem sRw_5 : sRw 161 32 ≤ 219 := by decide +kernel
theorem sRw_6 : sRw 193 32 ≤ 218 := by decide +kernel
theorem sRw_7 : sRw 225 32 ≤ 257 := by decide +kernel
theorem sRw_8 : sRw 257 32 ≤ 224 := by decide +kernel
theorem sRw_9 : sRw 289 32 ≤ 243 := by decide +kernel
theorem sRw_10 : sRw 321 32 ≤ 266 := by decide +kernel
theorem sRw_11 : sRw 353 32 ≤ 275 := by decide +kernel
theorem sRw_12 : sRw 385 32 ≤ 248 := by decide +kernel
theorem sRw_13 : sRw 417 32 ≤ 237 := by decide +kernel
theorem sRw_14 : sRw 449 32 ≤ 250 := by decide +kernel
theorem sRw_15 : sRw 481 32 ≤ 326 := by decide +kernel
theorem sRw_16 : sRw 513 32 ≤ 180 := by decide +kernel
theorem sRw_17 : sRw 545 32 ≤ 111 := by decide +kernel
theorem sRw_18 : sRw 577 15 ≤ 29 := by decide +kernel
theorem sRw_add (lo m : Nat) : ∀ n, sRw lo (m + n) = sRw lo m + sRw (lo + m) n
  | 0 => rfl
  | n + 1 => by
    show sRw lo (m + n) + mxR (lo + (m + n)) = sRw lo m + (sRw (lo + m) n + mxR (lo + m + n))
    rw [sRw_add lo m n, Nat.add_assoc, Nat.add_assoc lo m n]
theorem sRw_join {m n t lo S s U : Nat} (h1 : sRw 1 m ≤ S) (e1 : lo = 1 + m) (h2 : sRw lo n ≤ s) (e : t = m + n) (hU : S + s ≤ U) : sRw 1 t ≤ U := by
  subst e1
  subst e
  rw [sRw_add]
  exact Nat.le_trans (Nat.add_le_add h1 h2) hU
theorem sS_1 : sRw 1 64 ≤ 278 := sRw_join sRw_0 (by decide) sRw_1 (by decide) (by decide)
theorem sS_2 : sRw 1 96 ≤ 457 := sRw_join sS_1 (by decide) sRw_2 (by decide) (by decide)
theorem sS_3 : sRw 1 128 ≤ 668 := sRw_join sS_2 (by decide) sRw_3 (by decide) (by decide)
theorem sS_4 : sRw 1 160 ≤ 872 := sRw_join sS_3 (by decide) sRw_4 (by decide) (by decide)
theorem sS_5 : sRw 1 192 ≤ 1091 := sRw_join sS_4 (by decide) sRw_5 (by decide) (by decide)
theorem sS_6 : sRw 1 224 ≤ 1309 := sRw_join sS_5 (by decide) sRw_6 (by decide) (by decide)
theorem sS_7 : sRw 1 256 ≤ 1566 := sRw_join sS_6 (by decide) sRw_7 (by decide) (by decide)
theorem sS_8 : sRw 1 288 ≤ 1790 := sRw_join sS_7 (by decide) sRw_8 (by decide) (by decide)
theorem sS_9 : sRw 1 320 ≤ 2033 := sRw_join sS_8 (by decide) sRw_9 (by decide) (by decide)
theorem sS_10 : sRw 1 352 ≤ 2299 := sRw_join sS_9 (by decide) sRw_10 (by decide) (by decide)
theorem sS_11 : sRw 1 384 ≤ 2574 := sRw_join sS_10 (by decide) sRw_11 (by decide) (by decide)
theorem sS_12 : sRw 1 416 ≤ 2822 := sRw_join sS_11 (by decide) sRw_12 (by decide) (by decide)
theorem sS_13 : sRw 1 448 ≤ 3059 := sRw_join sS_12 (by decide) sRw_13 (by decide) (by decide)
theorem sS_14 : sRw 1 480 ≤ 3309 := sRw_join sS_13 (by decide) sRw_14 (by decide) (by decide)
theorem sS_15 : sRw 1 512 ≤ 3635 := sRw_join sS_14 (by decide) sRw_15 (by decide) (by decide)
theorem sS_16 : sRw 1 544 ≤ 3815 := sRw_join sS_15 (by decide) sRw_16 (by decide) (by decide)
theorem sS_17 : sRw 1 576 ≤ 3926 := sRw_join sS_16 (by decide) sRw_17 (by decide) (by decide)
theorem sS_18 : sRw 1 591 ≤ 3955 := sRw_join sS_17 (by decide) sRw_18 (by decide) (by decide)
