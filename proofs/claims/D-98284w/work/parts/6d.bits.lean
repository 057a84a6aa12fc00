/-! the two ways to count bits are alike on sixteen bits, in pieces -/
theorem bcb_0 : ∀ a, a < 8 → ∀ b, b < 256 → f_J11_bitCount (nI ((0 + a) * 256 + b)) = f_X6_bits (nI ((0 + a) * 256 + b)) := by decide +kernel
theorem bcb_1 : ∀ a, a < 8 → ∀ b, b < 256 → f_J11_bitCount (nI ((8 + a) * 256 + b)) = f_X6_bits (nI ((8 + a) * 256 + b)) := by decide +kernel
theorem bcb_2 : ∀ a, a < 8 → ∀ b, b < 256 → f_J11_bitCount (nI ((16 + a) * 256 + b)) = f_X6_bits (nI ((16 + a) * 256 + b)) := by decide +kernel
theorem bcb_3 : ∀ a, a < 8 → ∀ b, b < 256 → f_J11_bitCount (nI ((24 + a) * 256 + b)) = f_X6_bits (nI ((24 + a) * 256 + b)) := by decide +kernel
theorem bcb_4 : ∀ a, a < 8 → ∀ b, b < 256 → f_J11_bitCount (nI ((32 + a) * 256 + b)) = f_X6_bits (nI ((32 + a) * 256 + b)) := by decide +kernel
theorem bcb_5 : ∀ a, a < 8 → ∀ b, b < 256 → f_J11_bitCount (nI ((40 + a) * 256 + b)) = f_X6_bits (nI ((40 + a) * 256 + b)) := by decide +kernel
theorem bcb_6 : ∀ a, a < 8 → ∀ b, b < 256 → f_J11_bitCount (nI ((48 + a) * 256 + b)) = f_X6_bits (nI ((48 + a) * 256 + b)) := by decide +kernel
theorem bcb_7 : ∀ a, a < 8 → ∀ b, b < 256 → f_J11_bitCount (nI ((56 + a) * 256 + b)) = f_X6_bits (nI ((56 + a) * 256 + b)) := by decide +kernel
theorem bcb_8 : ∀ a, a < 8 → ∀ b, b < 256 → f_J11_bitCount (nI ((64 + a) * 256 + b)) = f_X6_bits (nI ((64 + a) * 256 + b)) := by decide +kernel
theorem bcb_9 : ∀ a, a < 8 → ∀ b, b < 256 → f_J11_bitCount (nI ((72 + a) * 256 + b)) = f_X6_bits (nI ((72 + a) * 256 + b)) := by decide +kernel
theorem bcb_10 : ∀ a, a < 8 → ∀ b, b < 256 → f_J11_bitCount (nI ((80 + a) * 256 + b)) = f_X6_bits (nI ((80 + a) * 256 + b)) := by decide +kernel
theorem bcb_11 : ∀ a, a < 8 → ∀ b, b < 256 → f_J11_bitCount (nI ((88 + a) * 256 + b)) = f_X6_bits (nI ((88 + a) * 256 + b)) := by decide +kernel
theorem bcb_12 : ∀ a, a < 8 → ∀ b, b < 256 → f_J11_bitCount (nI ((96 + a) * 256 + b)) = f_X6_bits (nI ((96 + a) * 256 + b)) := by decide +kernel
theorem bcb_13 : ∀ a, a < 8 → ∀ b, b < 256 → f_J11_bitCount (nI ((104 + a) * 256 + b)) = f_X6_bits (nI ((104 + a) * 256 + b)) := by decide +kernel
theorem bcb_14 : ∀ a, a < 8 → ∀ b, b < 256 → f_J11_bitCount (nI ((112 + a) * 256 + b)) = f_X6_bits (nI ((112 + a) * 256 + b)) := by decide +kernel
theorem bcb_15 : ∀ a, a < 8 → ∀ b, b < 256 → f_J11_bitCount (nI ((120 + a) * 256 + b)) = f_X6_bits (nI ((120 + a) * 256 + b)) := by decide +kernel
