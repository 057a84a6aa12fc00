/-! the two ways to count bits are alike on sixteen bits, in pieces -/
theorem bcb_16 : ∀ a, a < 8 → ∀ b, b < 256 → f_J11_bitCount (nI ((128 + a) * 256 + b)) = f_X6_bits (nI ((128 + a) * 256 + b)) := by decide +kernel
theorem bcb_17 : ∀ a, a < 8 → ∀ b, b < 256 → f_J11_bitCount (nI ((136 + a) * 256 + b)) = f_X6_bits (nI ((136 + a) * 256 + b)) := by decide +kernel
theorem bcb_18 : ∀ a, a < 8 → ∀ b, b < 256 → f_J11_bitCount (nI ((144 + a) * 256 + b)) = f_X6_bits (nI ((144 + a) * 256 + b)) := by decide +kernel
theorem bcb_19 : ∀ a, a < 8 → ∀ b, b < 256 → f_J11_bitCount (nI ((152 + a) * 256 + b)) = f_X6_bits (nI ((152 + a) * 256 + b)) := by decide +kernel
theorem bcb_20 : ∀ a, a < 8 → ∀ b, b < 256 → f_J11_bitCount (nI ((160 + a) * 256 + b)) = f_X6_bits (nI ((160 + a) * 256 + b)) := by decide +kernel
theorem bcb_21 : ∀ a, a < 8 → ∀ b, b < 256 → f_J11_bitCount (nI ((168 + a) * 256 + b)) = f_X6_bits (nI ((168 + a) * 256 + b)) := by decide +kernel
theorem bcb_22 : ∀ a, a < 8 → ∀ b, b < 256 → f_J11_bitCount (nI ((176 + a) * 256 + b)) = f_X6_bits (nI ((176 + a) * 256 + b)) := by decide +kernel
theorem bcb_23 : ∀ a, a < 8 → ∀ b, b < 256 → f_J11_bitCount (nI ((184 + a) * 256 + b)) = f_X6_bits (nI ((184 + a) * 256 + b)) := by decide +kernel
theorem bcb_24 : ∀ a, a < 8 → ∀ b, b < 256 → f_J11_bitCount (nI ((192 + a) * 256 + b)) = f_X6_bits (nI ((192 + a) * 256 + b)) := by decide +kernel
theorem bcb_25 : ∀ a, a < 8 → ∀ b, b < 256 → f_J11_bitCount (nI ((200 + a) * 256 + b)) = f_X6_bits (nI ((200 + a) * 256 + b)) := by decide +kernel
theorem bcb_26 : ∀ a, a < 8 → ∀ b, b < 256 → f_J11_bitCount (nI ((208 + a) * 256 + b)) = f_X6_bits (nI ((208 + a) * 256 + b)) := by decide +kernel
theorem bcb_27 : ∀ a, a < 8 → ∀ b, b < 256 → f_J11_bitCount (nI ((216 + a) * 256 + b)) = f_X6_bits (nI ((216 + a) * 256 + b)) := by decide +kernel
theorem bcb_28 : ∀ a, a < 8 → ∀ b, b < 256 → f_J11_bitCount (nI ((224 + a) * 256 + b)) = f_X6_bits (nI ((224 + a) * 256 + b)) := by decide +kernel
theorem bcb_29 : ∀ a, a < 8 → ∀ b, b < 256 → f_J11_bitCount (nI ((232 + a) * 256 + b)) = f_X6_bits (nI ((232 + a) * 256 + b)) := by decide +kernel
theorem bcb_30 : ∀ a, a < 8 → ∀ b, b < 256 → f_J11_bitCount (nI ((240 + a) * 256 + b)) = f_X6_bits (nI ((240 + a) * 256 + b)) := by decide +kernel
theorem bcb_31 : ∀ a, a < 8 → ∀ b, b < 256 → f_J11_bitCount (nI ((248 + a) * 256 + b)) = f_X6_bits (nI ((248 + a) * 256 + b)) := by decide +kernel
theorem bcb_a (a b : Nat) (ha : a < 256) (hb : b < 256) : f_J11_bitCount (nI (a * 256 + b)) = f_X6_bits (nI (a * 256 + b)) := by
  have h : ∀ i, i < 32 → ∀ c, c < 8 → f_J11_bitCount (nI ((8 * i + c) * 256 + b)) = f_X6_bits (nI ((8 * i + c) * 256 + b)) := by
    intro i hi c hc
    match i, hi with
    | 0, _ => exact bcb_0 c hc b hb
    | 1, _ => exact bcb_1 c hc b hb
    | 2, _ => exact bcb_2 c hc b hb
    | 3, _ => exact bcb_3 c hc b hb
    | 4, _ => exact bcb_4 c hc b hb
    | 5, _ => exact bcb_5 c hc b hb
    | 6, _ => exact bcb_6 c hc b hb
    | 7, _ => exact bcb_7 c hc b hb
    | 8, _ => exact bcb_8 c hc b hb
    | 9, _ => exact bcb_9 c hc b hb
    | 10, _ => exact bcb_10 c hc b hb
    | 11, _ => exact bcb_11 c hc b hb
    | 12, _ => exact bcb_12 c hc b hb
    | 13, _ => exact bcb_13 c hc b hb
    | 14, _ => exact bcb_14 c hc b hb
    | 15, _ => exact bcb_15 c hc b hb
    | 16, _ => exact bcb_16 c hc b hb
    | 17, _ => exact bcb_17 c hc b hb
    | 18, _ => exact bcb_18 c hc b hb
    | 19, _ => exact bcb_19 c hc b hb
    | 20, _ => exact bcb_20 c hc b hb
    | 21, _ => exact bcb_21 c hc b hb
    | 22, _ => exact bcb_22 c hc b hb
    | 23, _ => exact bcb_23 c hc b hb
    | 24, _ => exact bcb_24 c hc b hb
    | 25, _ => exact bcb_25 c hc b hb
    | 26, _ => exact bcb_26 c hc b hb
    | 27, _ => exact bcb_27 c hc b hb
    | 28, _ => exact bcb_28 c hc b hb
    | 29, _ => exact bcb_29 c hc b hb
    | 30, _ => exact bcb_30 c hc b hb
    | 31, _ => exact bcb_31 c hc b hb
    | n + 32, h => omega
  have := h (a / 8) (by omega) (a % 8) (by omega)
  rwa [show 8 * (a / 8) + a % 8 = a by omega] at this
theorem bcb {n : Nat} (h : n < 65536) : f_J11_bitCount (nI n) = f_X6_bits (nI n) := by
  have := bcb_a (n / 256) (n % 256) (by omega) (by omega)
  rwa [show n / 256 * 256 + n % 256 = n by omega] at this
