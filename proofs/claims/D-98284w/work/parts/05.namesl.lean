/-! LetMe -/
set_option maxRecDepth 100000
def RX0 : String := "LetMe"
def TX0 : u_T := fun k => match k with
  | 0 => ("LetMe", "trays", "[LLetMe$Tray;", true)
  | 1 => ("LetMe", "tape", "[B", true)
  | 2 => ("LetMe", "taped", "I", false)
  | 3 => ("LetMe", "faultKind", "I", false)
  | 4 => ("LetMe", "faultAt", "I", false)
  | 5 => ("LetMe", "bad", "LLetMe$Bad;", true)
  | 6 => ("LetMe", "refused", "LLetMe$Refused;", true)
  | 7 => ("LetMe", "status", "I", false)
  | 8 => ("LetMe", "above", "J", false)
  | 9 => ("LetMe", "under", "J", false)
  | 10 => ("LetMe", "now", "LLetMe$House;", true)
  | 11 => ("LetMe", "marks", "[LLetMe$House;", true)
  | 12 => ("LetMe", "markMany", "I", false)
  | 13 => ("LetMe", "sets", "I", false)
  | 14 => ("LetMe", "fewest", "I", false)
  | 15 => ("LetMe", "fewestSet", "I", false)
  | 16 => ("LetMe", "groups", "[I", true)
  | 17 => ("LetMe", "balances", "[I", true)
  | 18 => ("LetMe", "simple", "[I", true)
  | 19 => ("LetMe", "aside", "LLetMe$Table;", true)
  | 20 => ("LetMe", "given", "I", false)
  | 21 => ("LetMe", "last", "[I", true)
  | _ => ("LetMe", "hasLived", "Z", false)
def tyX0 : Nat → FieldType := fun k => match k with
  | 0 => .array (.object "LetMe$Tray")
  | 1 => .array .byte
  | 2 => .int
  | 3 => .int
  | 4 => .int
  | 5 => .object "LetMe$Bad"
  | 6 => .object "LetMe$Refused"
  | 7 => .int
  | 8 => .long
  | 9 => .long
  | 10 => .object "LetMe$House"
  | 11 => .array (.object "LetMe$House")
  | 12 => .int
  | 13 => .int
  | 14 => .int
  | 15 => .int
  | 16 => .array .int
  | 17 => .array .int
  | 18 => .array .int
  | 19 => .object "LetMe$Table"
  | 20 => .int
  | 21 => .array .int
  | _ => .boolean
abbrev wsX00 : List Cond := u_ws RX0 TX0 23
set_option maxRecDepth 100000 in
theorem nmX0 : ∀ a, a < 23 → ∀ b, b < 23 → a ≠ b → (TX0 a).2.1 ≠ (TX0 b).2.1 := by decide +kernel
set_option maxRecDepth 100000 in
theorem tyX0_ok : ∀ k, k < 23 → parseFieldDescriptor (TX0 k).2.2.1 = some (tyX0 k) := by decide +kernel
abbrev cX0_init : ByteArray := prog_1_method_6_code
def yX0_init : MethodName := ⟨RX0, "<init>", "()V"⟩
def dkwX0_init_6 : List UInt8 := [187, 0, 72, 89, 183, 0, 74, 181, 0, 75, 42, 8, 188, 10, 181, 0, 79, 177]
abbrev dktX0_init_6 : List UInt8 := dkwX0_init_6 ++ []
def dkwX0_init_5 : List UInt8 := [16, 64, 188, 10, 181, 0, 63, 42, 16, 6, 188, 10, 181, 0, 66, 42, 16, 36, 188, 10, 181, 0, 69, 42]
abbrev dktX0_init_5 : List UInt8 := dkwX0_init_5 ++ dktX0_init_6
def dkwX0_init_4 : List UInt8 := [181, 0, 48, 42, 187, 0, 52, 89, 183, 0, 54, 181, 0, 55, 42, 6, 189, 0, 52, 181, 0, 59, 42]
abbrev dktX0_init_4 : List UInt8 := dkwX0_init_4 ++ dktX0_init_5
def dkwX0_init_3 : List UInt8 := [187, 0, 34, 89, 183, 0, 36, 181, 0, 37, 42, 187, 0, 41, 89, 183, 0, 43, 181, 0, 44, 42, 10]
abbrev dktX0_init_3 : List UInt8 := dkwX0_init_3 ++ dktX0_init_4
def dkwX0_init_2 : List UInt8 := [83, 181, 0, 18, 42, 17, 3, 132, 188, 8, 181, 0, 24, 42, 2, 181, 0, 27, 42, 2, 181, 0, 31, 42]
abbrev dktX0_init_2 : List UInt8 := dkwX0_init_2 ++ dktX0_init_3
def dkwX0_init_1 : List UInt8 := [89, 183, 0, 17, 83, 89, 5, 187, 0, 15, 89, 183, 0, 17, 83, 89, 6, 187, 0, 15, 89, 183, 0, 17]
abbrev dktX0_init_1 : List UInt8 := dkwX0_init_1 ++ dktX0_init_2
def dkwX0_init_0 : List UInt8 := [42, 183, 0, 9, 42, 7, 189, 0, 15, 89, 3, 187, 0, 15, 89, 183, 0, 17, 83, 89, 4, 187, 0, 15]
abbrev dktX0_init_0 : List UInt8 := dkwX0_init_0 ++ dktX0_init_1
theorem dksX0_init_0 : cX0_init.data.toList.drop 0 = dktX0_init_0 := by decide +kernel
theorem dksX0_init_1 : cX0_init.data.toList.drop 24 = dktX0_init_1 := dk_seg dksX0_init_0 24 rfl rfl
theorem dksX0_init_2 : cX0_init.data.toList.drop 48 = dktX0_init_2 := dk_seg dksX0_init_1 24 rfl rfl
theorem dksX0_init_3 : cX0_init.data.toList.drop 72 = dktX0_init_3 := dk_seg dksX0_init_2 24 rfl rfl
theorem dksX0_init_4 : cX0_init.data.toList.drop 95 = dktX0_init_4 := dk_seg dksX0_init_3 23 rfl rfl
theorem dksX0_init_5 : cX0_init.data.toList.drop 118 = dktX0_init_5 := dk_seg dksX0_init_4 23 rfl rfl
theorem dksX0_init_6 : cX0_init.data.toList.drop 142 = dktX0_init_6 := dk_seg dksX0_init_5 24 rfl rfl
theorem dX0_init_0 : decode cX0_init 0 = .ok (.aload_n 0, 1) := dk_42 (dk_at dksX0_init_0 0 rfl rfl)
theorem dX0_init_1 : decode cX0_init 1 = .ok (.invokespecial 9, 3) := dk_183 0 9 (dk_at dksX0_init_0 1 rfl rfl)
theorem dX0_init_4 : decode cX0_init 4 = .ok (.aload_n 0, 1) := dk_42 (dk_at dksX0_init_0 4 rfl rfl)
theorem dX0_init_5 : decode cX0_init 5 = .ok (.iconst 4, 1) := dk_7 (dk_at dksX0_init_0 5 rfl rfl)
theorem dX0_init_6 : decode cX0_init 6 = .ok (.anewarray 15, 3) := dk_189 0 15 (dk_at dksX0_init_0 6 rfl rfl)
theorem dX0_init_9 : decode cX0_init 9 = .ok (.dup, 1) := dk_89 (dk_at dksX0_init_0 9 rfl rfl)
theorem dX0_init_10 : decode cX0_init 10 = .ok (.iconst 0, 1) := dk_3 (dk_at dksX0_init_0 10 rfl rfl)
theorem dX0_init_11 : decode cX0_init 11 = .ok (.new 15, 3) := dk_187 0 15 (dk_at dksX0_init_0 11 rfl rfl)
theorem dX0_init_14 : decode cX0_init 14 = .ok (.dup, 1) := dk_89 (dk_at dksX0_init_0 14 rfl rfl)
theorem dX0_init_15 : decode cX0_init 15 = .ok (.invokespecial 17, 3) := dk_183 0 17 (dk_at dksX0_init_0 15 rfl rfl)
theorem dX0_init_18 : decode cX0_init 18 = .ok (.aastore, 1) := dk_83 (dk_at dksX0_init_0 18 rfl rfl)
theorem dX0_init_19 : decode cX0_init 19 = .ok (.dup, 1) := dk_89 (dk_at dksX0_init_0 19 rfl rfl)
theorem dX0_init_20 : decode cX0_init 20 = .ok (.iconst 1, 1) := dk_4 (dk_at dksX0_init_0 20 rfl rfl)
theorem dX0_init_21 : decode cX0_init 21 = .ok (.new 15, 3) := dk_187 0 15 (dk_at dksX0_init_0 21 rfl rfl)
theorem dX0_init_24 : decode cX0_init 24 = .ok (.dup, 1) := dk_89 (dk_at dksX0_init_1 0 rfl rfl)
theorem dX0_init_25 : decode cX0_init 25 = .ok (.invokespecial 17, 3) := dk_183 0 17 (dk_at dksX0_init_1 1 rfl rfl)
theorem dX0_init_28 : decode cX0_init 28 = .ok (.aastore, 1) := dk_83 (dk_at dksX0_init_1 4 rfl rfl)
theorem dX0_init_29 : decode cX0_init 29 = .ok (.dup, 1) := dk_89 (dk_at dksX0_init_1 5 rfl rfl)
theorem dX0_init_30 : decode cX0_init 30 = .ok (.iconst 2, 1) := dk_5 (dk_at dksX0_init_1 6 rfl rfl)
theorem dX0_init_31 : decode cX0_init 31 = .ok (.new 15, 3) := dk_187 0 15 (dk_at dksX0_init_1 7 rfl rfl)
theorem dX0_init_34 : decode cX0_init 34 = .ok (.dup, 1) := dk_89 (dk_at dksX0_init_1 10 rfl rfl)
theorem dX0_init_35 : decode cX0_init 35 = .ok (.invokespecial 17, 3) := dk_183 0 17 (dk_at dksX0_init_1 11 rfl rfl)
theorem dX0_init_38 : decode cX0_init 38 = .ok (.aastore, 1) := dk_83 (dk_at dksX0_init_1 14 rfl rfl)
theorem dX0_init_39 : decode cX0_init 39 = .ok (.dup, 1) := dk_89 (dk_at dksX0_init_1 15 rfl rfl)
theorem dX0_init_40 : decode cX0_init 40 = .ok (.iconst 3, 1) := dk_6 (dk_at dksX0_init_1 16 rfl rfl)
theorem dX0_init_41 : decode cX0_init 41 = .ok (.new 15, 3) := dk_187 0 15 (dk_at dksX0_init_1 17 rfl rfl)
theorem dX0_init_44 : decode cX0_init 44 = .ok (.dup, 1) := dk_89 (dk_at dksX0_init_1 20 rfl rfl)
theorem dX0_init_45 : decode cX0_init 45 = .ok (.invokespecial 17, 3) := dk_183 0 17 (dk_at dksX0_init_1 21 rfl rfl)
theorem dX0_init_48 : decode cX0_init 48 = .ok (.aastore, 1) := dk_83 (dk_at dksX0_init_2 0 rfl rfl)
theorem dX0_init_49 : decode cX0_init 49 = .ok (.putfield 18, 3) := dk_181 0 18 (dk_at dksX0_init_2 1 rfl rfl)
theorem dX0_init_52 : decode cX0_init 52 = .ok (.aload_n 0, 1) := dk_42 (dk_at dksX0_init_2 4 rfl rfl)
theorem dX0_init_53 : decode cX0_init 53 = .ok (.sipush 900, 3) := dk_17 3 132 (dk_at dksX0_init_2 5 rfl rfl)
theorem dX0_init_56 : decode cX0_init 56 = .ok (.newarray .byte, 2) := dk_188_8 (dk_at dksX0_init_2 8 rfl rfl)
theorem dX0_init_58 : decode cX0_init 58 = .ok (.putfield 24, 3) := dk_181 0 24 (dk_at dksX0_init_2 10 rfl rfl)
theorem dX0_init_61 : decode cX0_init 61 = .ok (.aload_n 0, 1) := dk_42 (dk_at dksX0_init_2 13 rfl rfl)
theorem dX0_init_62 : decode cX0_init 62 = .ok (.iconst (-1), 1) := dk_2 (dk_at dksX0_init_2 14 rfl rfl)
theorem dX0_init_63 : decode cX0_init 63 = .ok (.putfield 27, 3) := dk_181 0 27 (dk_at dksX0_init_2 15 rfl rfl)
theorem dX0_init_66 : decode cX0_init 66 = .ok (.aload_n 0, 1) := dk_42 (dk_at dksX0_init_2 18 rfl rfl)
theorem dX0_init_67 : decode cX0_init 67 = .ok (.iconst (-1), 1) := dk_2 (dk_at dksX0_init_2 19 rfl rfl)
theorem dX0_init_68 : decode cX0_init 68 = .ok (.putfield 31, 3) := dk_181 0 31 (dk_at dksX0_init_2 20 rfl rfl)
theorem dX0_init_71 : decode cX0_init 71 = .ok (.aload_n 0, 1) := dk_42 (dk_at dksX0_init_2 23 rfl rfl)
theorem dX0_init_72 : decode cX0_init 72 = .ok (.new 34, 3) := dk_187 0 34 (dk_at dksX0_init_3 0 rfl rfl)
theorem dX0_init_75 : decode cX0_init 75 = .ok (.dup, 1) := dk_89 (dk_at dksX0_init_3 3 rfl rfl)
theorem dX0_init_76 : decode cX0_init 76 = .ok (.invokespecial 36, 3) := dk_183 0 36 (dk_at dksX0_init_3 4 rfl rfl)
theorem dX0_init_79 : decode cX0_init 79 = .ok (.putfield 37, 3) := dk_181 0 37 (dk_at dksX0_init_3 7 rfl rfl)
theorem dX0_init_82 : decode cX0_init 82 = .ok (.aload_n 0, 1) := dk_42 (dk_at dksX0_init_3 10 rfl rfl)
theorem dX0_init_83 : decode cX0_init 83 = .ok (.new 41, 3) := dk_187 0 41 (dk_at dksX0_init_3 11 rfl rfl)
theorem dX0_init_86 : decode cX0_init 86 = .ok (.dup, 1) := dk_89 (dk_at dksX0_init_3 14 rfl rfl)
theorem dX0_init_87 : decode cX0_init 87 = .ok (.invokespecial 43, 3) := dk_183 0 43 (dk_at dksX0_init_3 15 rfl rfl)
theorem dX0_init_90 : decode cX0_init 90 = .ok (.putfield 44, 3) := dk_181 0 44 (dk_at dksX0_init_3 18 rfl rfl)
theorem dX0_init_93 : decode cX0_init 93 = .ok (.aload_n 0, 1) := dk_42 (dk_at dksX0_init_3 21 rfl rfl)
theorem dX0_init_94 : decode cX0_init 94 = .ok (.lconst 1, 1) := dk_10 (dk_at dksX0_init_3 22 rfl rfl)
theorem dX0_init_95 : decode cX0_init 95 = .ok (.putfield 48, 3) := dk_181 0 48 (dk_at dksX0_init_4 0 rfl rfl)
theorem dX0_init_98 : decode cX0_init 98 = .ok (.aload_n 0, 1) := dk_42 (dk_at dksX0_init_4 3 rfl rfl)
theorem dX0_init_99 : decode cX0_init 99 = .ok (.new 52, 3) := dk_187 0 52 (dk_at dksX0_init_4 4 rfl rfl)
theorem dX0_init_102 : decode cX0_init 102 = .ok (.dup, 1) := dk_89 (dk_at dksX0_init_4 7 rfl rfl)
theorem dX0_init_103 : decode cX0_init 103 = .ok (.invokespecial 54, 3) := dk_183 0 54 (dk_at dksX0_init_4 8 rfl rfl)
theorem dX0_init_106 : decode cX0_init 106 = .ok (.putfield 55, 3) := dk_181 0 55 (dk_at dksX0_init_4 11 rfl rfl)
theorem dX0_init_109 : decode cX0_init 109 = .ok (.aload_n 0, 1) := dk_42 (dk_at dksX0_init_4 14 rfl rfl)
theorem dX0_init_110 : decode cX0_init 110 = .ok (.iconst 3, 1) := dk_6 (dk_at dksX0_init_4 15 rfl rfl)
theorem dX0_init_111 : decode cX0_init 111 = .ok (.anewarray 52, 3) := dk_189 0 52 (dk_at dksX0_init_4 16 rfl rfl)
theorem dX0_init_114 : decode cX0_init 114 = .ok (.putfield 59, 3) := dk_181 0 59 (dk_at dksX0_init_4 19 rfl rfl)
theorem dX0_init_117 : decode cX0_init 117 = .ok (.aload_n 0, 1) := dk_42 (dk_at dksX0_init_4 22 rfl rfl)
theorem dX0_init_118 : decode cX0_init 118 = .ok (.bipush 64, 2) := dk_16 64 (dk_at dksX0_init_5 0 rfl rfl)
theorem dX0_init_120 : decode cX0_init 120 = .ok (.newarray .int, 2) := dk_188_10 (dk_at dksX0_init_5 2 rfl rfl)
theorem dX0_init_122 : decode cX0_init 122 = .ok (.putfield 63, 3) := dk_181 0 63 (dk_at dksX0_init_5 4 rfl rfl)
theorem dX0_init_125 : decode cX0_init 125 = .ok (.aload_n 0, 1) := dk_42 (dk_at dksX0_init_5 7 rfl rfl)
theorem dX0_init_126 : decode cX0_init 126 = .ok (.bipush 6, 2) := dk_16 6 (dk_at dksX0_init_5 8 rfl rfl)
theorem dX0_init_128 : decode cX0_init 128 = .ok (.newarray .int, 2) := dk_188_10 (dk_at dksX0_init_5 10 rfl rfl)
theorem dX0_init_130 : decode cX0_init 130 = .ok (.putfield 66, 3) := dk_181 0 66 (dk_at dksX0_init_5 12 rfl rfl)
theorem dX0_init_133 : decode cX0_init 133 = .ok (.aload_n 0, 1) := dk_42 (dk_at dksX0_init_5 15 rfl rfl)
theorem dX0_init_134 : decode cX0_init 134 = .ok (.bipush 36, 2) := dk_16 36 (dk_at dksX0_init_5 16 rfl rfl)
theorem dX0_init_136 : decode cX0_init 136 = .ok (.newarray .int, 2) := dk_188_10 (dk_at dksX0_init_5 18 rfl rfl)
theorem dX0_init_138 : decode cX0_init 138 = .ok (.putfield 69, 3) := dk_181 0 69 (dk_at dksX0_init_5 20 rfl rfl)
theorem dX0_init_141 : decode cX0_init 141 = .ok (.aload_n 0, 1) := dk_42 (dk_at dksX0_init_5 23 rfl rfl)
theorem dX0_init_142 : decode cX0_init 142 = .ok (.new 72, 3) := dk_187 0 72 (dk_at dksX0_init_6 0 rfl rfl)
theorem dX0_init_145 : decode cX0_init 145 = .ok (.dup, 1) := dk_89 (dk_at dksX0_init_6 3 rfl rfl)
theorem dX0_init_146 : decode cX0_init 146 = .ok (.invokespecial 74, 3) := dk_183 0 74 (dk_at dksX0_init_6 4 rfl rfl)
theorem dX0_init_149 : decode cX0_init 149 = .ok (.putfield 75, 3) := dk_181 0 75 (dk_at dksX0_init_6 7 rfl rfl)
theorem dX0_init_152 : decode cX0_init 152 = .ok (.aload_n 0, 1) := dk_42 (dk_at dksX0_init_6 10 rfl rfl)
theorem dX0_init_153 : decode cX0_init 153 = .ok (.iconst 5, 1) := dk_8 (dk_at dksX0_init_6 11 rfl rfl)
theorem dX0_init_154 : decode cX0_init 154 = .ok (.newarray .int, 2) := dk_188_10 (dk_at dksX0_init_6 12 rfl rfl)
theorem dX0_init_156 : decode cX0_init 156 = .ok (.putfield 79, 3) := dk_181 0 79 (dk_at dksX0_init_6 14 rfl rfl)
theorem dX0_init_159 : decode cX0_init 159 = .ok (.return_, 1) := dk_177 (dk_at dksX0_init_6 17 rfl rfl)
abbrev cX0_status : ByteArray := prog_1_method_7_code
def yX0_status : MethodName := ⟨RX0, "status", "()I"⟩
theorem dX0_status_0 : decode cX0_status 0 = .ok (.aload_n 0, 1) := by decide +kernel
theorem dX0_status_1 : decode cX0_status 1 = .ok (.getfield 82, 3) := by decide +kernel
theorem dX0_status_4 : decode cX0_status 4 = .ok (.ireturn, 1) := by decide +kernel
abbrev cX0_top : ByteArray := prog_1_method_8_code
def yX0_top : MethodName := ⟨RX0, "top", "()J"⟩
theorem dX0_top_0 : decode cX0_top 0 = .ok (.aload_n 0, 1) := by decide +kernel
theorem dX0_top_1 : decode cX0_top 1 = .ok (.getfield 85, 3) := by decide +kernel
theorem dX0_top_4 : decode cX0_top 4 = .ok (.lreturn, 1) := by decide +kernel
abbrev cX0_bottom : ByteArray := prog_1_method_9_code
def yX0_bottom : MethodName := ⟨RX0, "bottom", "()J"⟩
theorem dX0_bottom_0 : decode cX0_bottom 0 = .ok (.aload_n 0, 1) := by decide +kernel
theorem dX0_bottom_1 : decode cX0_bottom 1 = .ok (.getfield 48, 3) := by decide +kernel
theorem dX0_bottom_4 : decode cX0_bottom 4 = .ok (.lreturn, 1) := by decide +kernel
abbrev cX0_tray : ByteArray := prog_1_method_15_code
def yX0_tray : MethodName := ⟨RX0, "tray", "(III)Z"⟩
def dkwX0_tray_3 : List UInt8 := [182, 0, 120, 172]
abbrev dktX0_tray_3 : List UInt8 := dkwX0_tray_3 ++ []
def dkwX0_tray_2 : List UInt8 := [184, 0, 115, 181, 0, 111, 4, 172, 58, 4, 42, 4, 181, 0, 82, 3, 172, 58, 4, 42, 25, 4]
abbrev dktX0_tray_2 : List UInt8 := dkwX0_tray_2 ++ dktX0_tray_3
def dkwX0_tray_1 : List UInt8 := [29, 16, 60, 163, 0, 7, 4, 167, 0, 4, 3, 4, 182, 0, 107, 42, 180, 0, 18, 27, 50, 28, 29]
abbrev dktX0_tray_1 : List UInt8 := dkwX0_tray_1 ++ dktX0_tray_2
def dkwX0_tray_0 : List UInt8 := [42, 3, 181, 0, 82, 42, 27, 155, 0, 27, 27, 7, 162, 0, 22, 28, 155, 0, 18, 28, 6, 163, 0, 13]
abbrev dktX0_tray_0 : List UInt8 := dkwX0_tray_0 ++ dktX0_tray_1
theorem dksX0_tray_0 : cX0_tray.data.toList.drop 0 = dktX0_tray_0 := by decide +kernel
theorem dksX0_tray_1 : cX0_tray.data.toList.drop 24 = dktX0_tray_1 := dk_seg dksX0_tray_0 24 rfl rfl
theorem dksX0_tray_2 : cX0_tray.data.toList.drop 47 = dktX0_tray_2 := dk_seg dksX0_tray_1 23 rfl rfl
theorem dksX0_tray_3 : cX0_tray.data.toList.drop 69 = dktX0_tray_3 := dk_seg dksX0_tray_2 22 rfl rfl
theorem dX0_tray_0 : decode cX0_tray 0 = .ok (.aload_n 0, 1) := dk_42 (dk_at dksX0_tray_0 0 rfl rfl)
theorem dX0_tray_1 : decode cX0_tray 1 = .ok (.iconst 0, 1) := dk_3 (dk_at dksX0_tray_0 1 rfl rfl)
theorem dX0_tray_2 : decode cX0_tray 2 = .ok (.putfield 82, 3) := dk_181 0 82 (dk_at dksX0_tray_0 2 rfl rfl)
theorem dX0_tray_5 : decode cX0_tray 5 = .ok (.aload_n 0, 1) := dk_42 (dk_at dksX0_tray_0 5 rfl rfl)
theorem dX0_tray_6 : decode cX0_tray 6 = .ok (.iload_n 1, 1) := dk_27 (dk_at dksX0_tray_0 6 rfl rfl)
theorem dX0_tray_7 : decode cX0_tray 7 = .ok (.ifCond .lt 27, 3) := dk_155 0 27 (dk_at dksX0_tray_0 7 rfl rfl)
theorem dX0_tray_10 : decode cX0_tray 10 = .ok (.iload_n 1, 1) := dk_27 (dk_at dksX0_tray_0 10 rfl rfl)
theorem dX0_tray_11 : decode cX0_tray 11 = .ok (.iconst 4, 1) := dk_7 (dk_at dksX0_tray_0 11 rfl rfl)
theorem dX0_tray_12 : decode cX0_tray 12 = .ok (.if_icmp .ge 22, 3) := dk_162 0 22 (dk_at dksX0_tray_0 12 rfl rfl)
theorem dX0_tray_15 : decode cX0_tray 15 = .ok (.iload_n 2, 1) := dk_28 (dk_at dksX0_tray_0 15 rfl rfl)
theorem dX0_tray_16 : decode cX0_tray 16 = .ok (.ifCond .lt 18, 3) := dk_155 0 18 (dk_at dksX0_tray_0 16 rfl rfl)
theorem dX0_tray_19 : decode cX0_tray 19 = .ok (.iload_n 2, 1) := dk_28 (dk_at dksX0_tray_0 19 rfl rfl)
theorem dX0_tray_20 : decode cX0_tray 20 = .ok (.iconst 3, 1) := dk_6 (dk_at dksX0_tray_0 20 rfl rfl)
theorem dX0_tray_21 : decode cX0_tray 21 = .ok (.if_icmp .gt 13, 3) := dk_163 0 13 (dk_at dksX0_tray_0 21 rfl rfl)
theorem dX0_tray_24 : decode cX0_tray 24 = .ok (.iload_n 3, 1) := dk_29 (dk_at dksX0_tray_1 0 rfl rfl)
theorem dX0_tray_25 : decode cX0_tray 25 = .ok (.bipush 60, 2) := dk_16 60 (dk_at dksX0_tray_1 1 rfl rfl)
theorem dX0_tray_27 : decode cX0_tray 27 = .ok (.if_icmp .gt 7, 3) := dk_163 0 7 (dk_at dksX0_tray_1 3 rfl rfl)
theorem dX0_tray_30 : decode cX0_tray 30 = .ok (.iconst 1, 1) := dk_4 (dk_at dksX0_tray_1 6 rfl rfl)
theorem dX0_tray_31 : decode cX0_tray 31 = .ok (.goto 4, 3) := dk_167 0 4 (dk_at dksX0_tray_1 7 rfl rfl)
theorem dX0_tray_34 : decode cX0_tray 34 = .ok (.iconst 0, 1) := dk_3 (dk_at dksX0_tray_1 10 rfl rfl)
theorem dX0_tray_35 : decode cX0_tray 35 = .ok (.iconst 1, 1) := dk_4 (dk_at dksX0_tray_1 11 rfl rfl)
theorem dX0_tray_36 : decode cX0_tray 36 = .ok (.invokevirtual 107, 3) := dk_182 0 107 (dk_at dksX0_tray_1 12 rfl rfl)
theorem dX0_tray_39 : decode cX0_tray 39 = .ok (.aload_n 0, 1) := dk_42 (dk_at dksX0_tray_1 15 rfl rfl)
theorem dX0_tray_40 : decode cX0_tray 40 = .ok (.getfield 18, 3) := dk_180 0 18 (dk_at dksX0_tray_1 16 rfl rfl)
theorem dX0_tray_43 : decode cX0_tray 43 = .ok (.iload_n 1, 1) := dk_27 (dk_at dksX0_tray_1 19 rfl rfl)
theorem dX0_tray_44 : decode cX0_tray 44 = .ok (.aaload, 1) := dk_50 (dk_at dksX0_tray_1 20 rfl rfl)
theorem dX0_tray_45 : decode cX0_tray 45 = .ok (.iload_n 2, 1) := dk_28 (dk_at dksX0_tray_1 21 rfl rfl)
theorem dX0_tray_46 : decode cX0_tray 46 = .ok (.iload_n 3, 1) := dk_29 (dk_at dksX0_tray_1 22 rfl rfl)
theorem dX0_tray_47 : decode cX0_tray 47 = .ok (.invokestatic 115, 3) := dk_184 0 115 (dk_at dksX0_tray_2 0 rfl rfl)
theorem dX0_tray_50 : decode cX0_tray 50 = .ok (.putfield 111, 3) := dk_181 0 111 (dk_at dksX0_tray_2 3 rfl rfl)
theorem dX0_tray_53 : decode cX0_tray 53 = .ok (.iconst 1, 1) := dk_4 (dk_at dksX0_tray_2 6 rfl rfl)
theorem dX0_tray_54 : decode cX0_tray 54 = .ok (.ireturn, 1) := dk_172 (dk_at dksX0_tray_2 7 rfl rfl)
theorem dX0_tray_55 : decode cX0_tray 55 = .ok (.astore 4, 2) := dk_58 4 (dk_at dksX0_tray_2 8 rfl rfl)
theorem dX0_tray_57 : decode cX0_tray 57 = .ok (.aload_n 0, 1) := dk_42 (dk_at dksX0_tray_2 10 rfl rfl)
theorem dX0_tray_58 : decode cX0_tray 58 = .ok (.iconst 1, 1) := dk_4 (dk_at dksX0_tray_2 11 rfl rfl)
theorem dX0_tray_59 : decode cX0_tray 59 = .ok (.putfield 82, 3) := dk_181 0 82 (dk_at dksX0_tray_2 12 rfl rfl)
theorem dX0_tray_62 : decode cX0_tray 62 = .ok (.iconst 0, 1) := dk_3 (dk_at dksX0_tray_2 15 rfl rfl)
theorem dX0_tray_63 : decode cX0_tray 63 = .ok (.ireturn, 1) := dk_172 (dk_at dksX0_tray_2 16 rfl rfl)
theorem dX0_tray_64 : decode cX0_tray 64 = .ok (.astore 4, 2) := dk_58 4 (dk_at dksX0_tray_2 17 rfl rfl)
theorem dX0_tray_66 : decode cX0_tray 66 = .ok (.aload_n 0, 1) := dk_42 (dk_at dksX0_tray_2 19 rfl rfl)
theorem dX0_tray_67 : decode cX0_tray 67 = .ok (.aload 4, 2) := dk_25 4 (dk_at dksX0_tray_2 20 rfl rfl)
theorem dX0_tray_69 : decode cX0_tray 69 = .ok (.invokevirtual 120, 3) := dk_182 0 120 (dk_at dksX0_tray_3 0 rfl rfl)
theorem dX0_tray_72 : decode cX0_tray 72 = .ok (.ireturn, 1) := dk_172 (dk_at dksX0_tray_3 3 rfl rfl)
abbrev cX0_want : ByteArray := prog_1_method_10_code
def yX0_want : MethodName := ⟨RX0, "want", "(ZI)V"⟩
def dkwX0_want_0 : List UInt8 := [27, 154, 0, 12, 42, 180, 0, 44, 28, 182, 0, 88, 191, 177]
abbrev dktX0_want_0 : List UInt8 := dkwX0_want_0 ++ []
theorem dksX0_want_0 : cX0_want.data.toList.drop 0 = dktX0_want_0 := by decide +kernel
theorem dX0_want_0 : decode cX0_want 0 = .ok (.iload_n 1, 1) := dk_27 (dk_at dksX0_want_0 0 rfl rfl)
theorem dX0_want_1 : decode cX0_want 1 = .ok (.ifCond .ne 12, 3) := dk_154 0 12 (dk_at dksX0_want_0 1 rfl rfl)
theorem dX0_want_4 : decode cX0_want 4 = .ok (.aload_n 0, 1) := dk_42 (dk_at dksX0_want_0 4 rfl rfl)
theorem dX0_want_5 : decode cX0_want 5 = .ok (.getfield 44, 3) := dk_180 0 44 (dk_at dksX0_want_0 5 rfl rfl)
theorem dX0_want_8 : decode cX0_want 8 = .ok (.iload_n 2, 1) := dk_28 (dk_at dksX0_want_0 8 rfl rfl)
theorem dX0_want_9 : decode cX0_want 9 = .ok (.invokevirtual 88, 3) := dk_182 0 88 (dk_at dksX0_want_0 9 rfl rfl)
theorem dX0_want_12 : decode cX0_want 12 = .ok (.athrow, 1) := dk_191 (dk_at dksX0_want_0 12 rfl rfl)
theorem dX0_want_13 : decode cX0_want 13 = .ok (.return_, 1) := dk_177 (dk_at dksX0_want_0 13 rfl rfl)
abbrev cX0_row : ByteArray := prog_1_method_1_code
def yX0_row : MethodName := ⟨RX0, "row", "(II)Ljava/lang/Object;"⟩
def dkwX0_row_1 : List UInt8 := [160, 0, 9, 27, 188, 10, 167, 0, 6, 27, 188, 11, 176]
abbrev dktX0_row_1 : List UInt8 := dkwX0_row_1 ++ []
def dkwX0_row_0 : List UInt8 := [26, 154, 0, 9, 27, 188, 8, 167, 0, 28, 26, 4, 160, 0, 9, 27, 188, 9, 167, 0, 17, 26, 5]
abbrev dktX0_row_0 : List UInt8 := dkwX0_row_0 ++ dktX0_row_1
theorem dksX0_row_0 : cX0_row.data.toList.drop 0 = dktX0_row_0 := by decide +kernel
theorem dksX0_row_1 : cX0_row.data.toList.drop 23 = dktX0_row_1 := dk_seg dksX0_row_0 23 rfl rfl
theorem dX0_row_0 : decode cX0_row 0 = .ok (.iload_n 0, 1) := dk_26 (dk_at dksX0_row_0 0 rfl rfl)
theorem dX0_row_1 : decode cX0_row 1 = .ok (.ifCond .ne 9, 3) := dk_154 0 9 (dk_at dksX0_row_0 1 rfl rfl)
theorem dX0_row_4 : decode cX0_row 4 = .ok (.iload_n 1, 1) := dk_27 (dk_at dksX0_row_0 4 rfl rfl)
theorem dX0_row_5 : decode cX0_row 5 = .ok (.newarray .byte, 2) := dk_188_8 (dk_at dksX0_row_0 5 rfl rfl)
theorem dX0_row_7 : decode cX0_row 7 = .ok (.goto 28, 3) := dk_167 0 28 (dk_at dksX0_row_0 7 rfl rfl)
theorem dX0_row_10 : decode cX0_row 10 = .ok (.iload_n 0, 1) := dk_26 (dk_at dksX0_row_0 10 rfl rfl)
theorem dX0_row_11 : decode cX0_row 11 = .ok (.iconst 1, 1) := dk_4 (dk_at dksX0_row_0 11 rfl rfl)
theorem dX0_row_12 : decode cX0_row 12 = .ok (.if_icmp .ne 9, 3) := dk_160 0 9 (dk_at dksX0_row_0 12 rfl rfl)
theorem dX0_row_15 : decode cX0_row 15 = .ok (.iload_n 1, 1) := dk_27 (dk_at dksX0_row_0 15 rfl rfl)
theorem dX0_row_16 : decode cX0_row 16 = .ok (.newarray .short, 2) := dk_188_9 (dk_at dksX0_row_0 16 rfl rfl)
theorem dX0_row_18 : decode cX0_row 18 = .ok (.goto 17, 3) := dk_167 0 17 (dk_at dksX0_row_0 18 rfl rfl)
theorem dX0_row_21 : decode cX0_row 21 = .ok (.iload_n 0, 1) := dk_26 (dk_at dksX0_row_0 21 rfl rfl)
theorem dX0_row_22 : decode cX0_row 22 = .ok (.iconst 2, 1) := dk_5 (dk_at dksX0_row_0 22 rfl rfl)
theorem dX0_row_23 : decode cX0_row 23 = .ok (.if_icmp .ne 9, 3) := dk_160 0 9 (dk_at dksX0_row_1 0 rfl rfl)
theorem dX0_row_26 : decode cX0_row 26 = .ok (.iload_n 1, 1) := dk_27 (dk_at dksX0_row_1 3 rfl rfl)
theorem dX0_row_27 : decode cX0_row 27 = .ok (.newarray .int, 2) := dk_188_10 (dk_at dksX0_row_1 4 rfl rfl)
theorem dX0_row_29 : decode cX0_row 29 = .ok (.goto 6, 3) := dk_167 0 6 (dk_at dksX0_row_1 6 rfl rfl)
theorem dX0_row_32 : decode cX0_row 32 = .ok (.iload_n 1, 1) := dk_27 (dk_at dksX0_row_1 9 rfl rfl)
theorem dX0_row_33 : decode cX0_row 33 = .ok (.newarray .long, 2) := dk_188_11 (dk_at dksX0_row_1 10 rfl rfl)
theorem dX0_row_35 : decode cX0_row 35 = .ok (.areturn, 1) := dk_176 (dk_at dksX0_row_1 12 rfl rfl)
abbrev cX0_no : ByteArray := prog_1_method_12_code
def yX0_no : MethodName := ⟨RX0, "no", "(LLetMe$Refused;)Z"⟩
def dkwX0_no_0 : List UInt8 := [42, 43, 180, 0, 92, 181, 0, 82, 3, 172]
abbrev dktX0_no_0 : List UInt8 := dkwX0_no_0 ++ []
theorem dksX0_no_0 : cX0_no.data.toList.drop 0 = dktX0_no_0 := by decide +kernel
theorem dX0_no_0 : decode cX0_no 0 = .ok (.aload_n 0, 1) := dk_42 (dk_at dksX0_no_0 0 rfl rfl)
theorem dX0_no_1 : decode cX0_no 1 = .ok (.aload_n 1, 1) := dk_43 (dk_at dksX0_no_0 1 rfl rfl)
theorem dX0_no_2 : decode cX0_no 2 = .ok (.getfield 92, 3) := dk_180 0 92 (dk_at dksX0_no_0 2 rfl rfl)
theorem dX0_no_5 : decode cX0_no 5 = .ok (.putfield 82, 3) := dk_181 0 82 (dk_at dksX0_no_0 5 rfl rfl)
theorem dX0_no_8 : decode cX0_no 8 = .ok (.iconst 0, 1) := dk_3 (dk_at dksX0_no_0 8 rfl rfl)
theorem dX0_no_9 : decode cX0_no 9 = .ok (.ireturn, 1) := dk_172 (dk_at dksX0_no_0 9 rfl rfl)
abbrev cX0_write : ByteArray := prog_1_method_16_code
def yX0_write : MethodName := ⟨RX0, "write", "(IIJ)Z"⟩
def dkwX0_write_1 : List UInt8 := [3, 172, 58, 5, 42, 25, 5, 182, 0, 120, 172]
abbrev dktX0_write_1 : List UInt8 := dkwX0_write_1 ++ []
def dkwX0_write_0 : List UInt8 := [42, 3, 181, 0, 82, 42, 27, 182, 0, 124, 28, 33, 184, 0, 128, 4, 172, 58, 5, 42, 6, 181, 0, 82]
abbrev dktX0_write_0 : List UInt8 := dkwX0_write_0 ++ dktX0_write_1
theorem dksX0_write_0 : cX0_write.data.toList.drop 0 = dktX0_write_0 := by decide +kernel
theorem dksX0_write_1 : cX0_write.data.toList.drop 24 = dktX0_write_1 := dk_seg dksX0_write_0 24 rfl rfl
theorem dX0_write_0 : decode cX0_write 0 = .ok (.aload_n 0, 1) := dk_42 (dk_at dksX0_write_0 0 rfl rfl)
theorem dX0_write_1 : decode cX0_write 1 = .ok (.iconst 0, 1) := dk_3 (dk_at dksX0_write_0 1 rfl rfl)
theorem dX0_write_2 : decode cX0_write 2 = .ok (.putfield 82, 3) := dk_181 0 82 (dk_at dksX0_write_0 2 rfl rfl)
theorem dX0_write_5 : decode cX0_write 5 = .ok (.aload_n 0, 1) := dk_42 (dk_at dksX0_write_0 5 rfl rfl)
theorem dX0_write_6 : decode cX0_write 6 = .ok (.iload_n 1, 1) := dk_27 (dk_at dksX0_write_0 6 rfl rfl)
theorem dX0_write_7 : decode cX0_write 7 = .ok (.invokevirtual 124, 3) := dk_182 0 124 (dk_at dksX0_write_0 7 rfl rfl)
theorem dX0_write_10 : decode cX0_write 10 = .ok (.iload_n 2, 1) := dk_28 (dk_at dksX0_write_0 10 rfl rfl)
theorem dX0_write_11 : decode cX0_write 11 = .ok (.lload_n 3, 1) := dk_33 (dk_at dksX0_write_0 11 rfl rfl)
theorem dX0_write_12 : decode cX0_write 12 = .ok (.invokestatic 128, 3) := dk_184 0 128 (dk_at dksX0_write_0 12 rfl rfl)
theorem dX0_write_15 : decode cX0_write 15 = .ok (.iconst 1, 1) := dk_4 (dk_at dksX0_write_0 15 rfl rfl)
theorem dX0_write_16 : decode cX0_write 16 = .ok (.ireturn, 1) := dk_172 (dk_at dksX0_write_0 16 rfl rfl)
theorem dX0_write_17 : decode cX0_write 17 = .ok (.astore 5, 2) := dk_58 5 (dk_at dksX0_write_0 17 rfl rfl)
theorem dX0_write_19 : decode cX0_write 19 = .ok (.aload_n 0, 1) := dk_42 (dk_at dksX0_write_0 19 rfl rfl)
theorem dX0_write_20 : decode cX0_write 20 = .ok (.iconst 3, 1) := dk_6 (dk_at dksX0_write_0 20 rfl rfl)
theorem dX0_write_21 : decode cX0_write 21 = .ok (.putfield 82, 3) := dk_181 0 82 (dk_at dksX0_write_0 21 rfl rfl)
theorem dX0_write_24 : decode cX0_write 24 = .ok (.iconst 0, 1) := dk_3 (dk_at dksX0_write_1 0 rfl rfl)
theorem dX0_write_25 : decode cX0_write 25 = .ok (.ireturn, 1) := dk_172 (dk_at dksX0_write_1 1 rfl rfl)
theorem dX0_write_26 : decode cX0_write 26 = .ok (.astore 5, 2) := dk_58 5 (dk_at dksX0_write_1 2 rfl rfl)
theorem dX0_write_28 : decode cX0_write 28 = .ok (.aload_n 0, 1) := dk_42 (dk_at dksX0_write_1 4 rfl rfl)
theorem dX0_write_29 : decode cX0_write 29 = .ok (.aload 5, 2) := dk_25 5 (dk_at dksX0_write_1 5 rfl rfl)
theorem dX0_write_31 : decode cX0_write 31 = .ok (.invokevirtual 120, 3) := dk_182 0 120 (dk_at dksX0_write_1 7 rfl rfl)
theorem dX0_write_34 : decode cX0_write 34 = .ok (.ireturn, 1) := dk_172 (dk_at dksX0_write_1 10 rfl rfl)
abbrev cX0_on : ByteArray := prog_1_method_14_code
def yX0_on : MethodName := ⟨RX0, "on", "(I)Ljava/lang/Object;"⟩
def dkwX0_on_2 : List UInt8 := [180, 0, 111, 176]
abbrev dktX0_on_2 : List UInt8 := dkwX0_on_2 ++ []
def dkwX0_on_1 : List UInt8 := [27, 50, 180, 0, 111, 198, 0, 7, 4, 167, 0, 4, 3, 5, 182, 0, 107, 42, 180, 0, 18, 27, 50]
abbrev dktX0_on_1 : List UInt8 := dkwX0_on_1 ++ dktX0_on_2
def dkwX0_on_0 : List UInt8 := [42, 27, 155, 0, 12, 27, 7, 162, 0, 7, 4, 167, 0, 4, 3, 4, 182, 0, 107, 42, 42, 180, 0, 18]
abbrev dktX0_on_0 : List UInt8 := dkwX0_on_0 ++ dktX0_on_1
theorem dksX0_on_0 : cX0_on.data.toList.drop 0 = dktX0_on_0 := by decide +kernel
theorem dksX0_on_1 : cX0_on.data.toList.drop 24 = dktX0_on_1 := dk_seg dksX0_on_0 24 rfl rfl
theorem dksX0_on_2 : cX0_on.data.toList.drop 47 = dktX0_on_2 := dk_seg dksX0_on_1 23 rfl rfl
theorem dX0_on_0 : decode cX0_on 0 = .ok (.aload_n 0, 1) := dk_42 (dk_at dksX0_on_0 0 rfl rfl)
theorem dX0_on_1 : decode cX0_on 1 = .ok (.iload_n 1, 1) := dk_27 (dk_at dksX0_on_0 1 rfl rfl)
theorem dX0_on_2 : decode cX0_on 2 = .ok (.ifCond .lt 12, 3) := dk_155 0 12 (dk_at dksX0_on_0 2 rfl rfl)
theorem dX0_on_5 : decode cX0_on 5 = .ok (.iload_n 1, 1) := dk_27 (dk_at dksX0_on_0 5 rfl rfl)
theorem dX0_on_6 : decode cX0_on 6 = .ok (.iconst 4, 1) := dk_7 (dk_at dksX0_on_0 6 rfl rfl)
theorem dX0_on_7 : decode cX0_on 7 = .ok (.if_icmp .ge 7, 3) := dk_162 0 7 (dk_at dksX0_on_0 7 rfl rfl)
theorem dX0_on_10 : decode cX0_on 10 = .ok (.iconst 1, 1) := dk_4 (dk_at dksX0_on_0 10 rfl rfl)
theorem dX0_on_11 : decode cX0_on 11 = .ok (.goto 4, 3) := dk_167 0 4 (dk_at dksX0_on_0 11 rfl rfl)
theorem dX0_on_14 : decode cX0_on 14 = .ok (.iconst 0, 1) := dk_3 (dk_at dksX0_on_0 14 rfl rfl)
theorem dX0_on_15 : decode cX0_on 15 = .ok (.iconst 1, 1) := dk_4 (dk_at dksX0_on_0 15 rfl rfl)
theorem dX0_on_16 : decode cX0_on 16 = .ok (.invokevirtual 107, 3) := dk_182 0 107 (dk_at dksX0_on_0 16 rfl rfl)
theorem dX0_on_19 : decode cX0_on 19 = .ok (.aload_n 0, 1) := dk_42 (dk_at dksX0_on_0 19 rfl rfl)
theorem dX0_on_20 : decode cX0_on 20 = .ok (.aload_n 0, 1) := dk_42 (dk_at dksX0_on_0 20 rfl rfl)
theorem dX0_on_21 : decode cX0_on 21 = .ok (.getfield 18, 3) := dk_180 0 18 (dk_at dksX0_on_0 21 rfl rfl)
theorem dX0_on_24 : decode cX0_on 24 = .ok (.iload_n 1, 1) := dk_27 (dk_at dksX0_on_1 0 rfl rfl)
theorem dX0_on_25 : decode cX0_on 25 = .ok (.aaload, 1) := dk_50 (dk_at dksX0_on_1 1 rfl rfl)
theorem dX0_on_26 : decode cX0_on 26 = .ok (.getfield 111, 3) := dk_180 0 111 (dk_at dksX0_on_1 2 rfl rfl)
theorem dX0_on_29 : decode cX0_on 29 = .ok (.ifnull 7, 3) := dk_198 0 7 (dk_at dksX0_on_1 5 rfl rfl)
theorem dX0_on_32 : decode cX0_on 32 = .ok (.iconst 1, 1) := dk_4 (dk_at dksX0_on_1 8 rfl rfl)
theorem dX0_on_33 : decode cX0_on 33 = .ok (.goto 4, 3) := dk_167 0 4 (dk_at dksX0_on_1 9 rfl rfl)
theorem dX0_on_36 : decode cX0_on 36 = .ok (.iconst 0, 1) := dk_3 (dk_at dksX0_on_1 12 rfl rfl)
theorem dX0_on_37 : decode cX0_on 37 = .ok (.iconst 2, 1) := dk_5 (dk_at dksX0_on_1 13 rfl rfl)
theorem dX0_on_38 : decode cX0_on 38 = .ok (.invokevirtual 107, 3) := dk_182 0 107 (dk_at dksX0_on_1 14 rfl rfl)
theorem dX0_on_41 : decode cX0_on 41 = .ok (.aload_n 0, 1) := dk_42 (dk_at dksX0_on_1 17 rfl rfl)
theorem dX0_on_42 : decode cX0_on 42 = .ok (.getfield 18, 3) := dk_180 0 18 (dk_at dksX0_on_1 18 rfl rfl)
theorem dX0_on_45 : decode cX0_on 45 = .ok (.iload_n 1, 1) := dk_27 (dk_at dksX0_on_1 21 rfl rfl)
theorem dX0_on_46 : decode cX0_on 46 = .ok (.aaload, 1) := dk_50 (dk_at dksX0_on_1 22 rfl rfl)
theorem dX0_on_47 : decode cX0_on 47 = .ok (.getfield 111, 3) := dk_180 0 111 (dk_at dksX0_on_2 0 rfl rfl)
theorem dX0_on_50 : decode cX0_on 50 = .ok (.areturn, 1) := dk_176 (dk_at dksX0_on_2 3 rfl rfl)
abbrev cX0_put : ByteArray := prog_1_method_5_code
def yX0_put : MethodName := ⟨RX0, "put", "(Ljava/lang/Object;IJ)V"⟩
def dkwX0_put_3 : List UInt8 := [192, 0, 7, 27, 32, 80, 177]
abbrev dktX0_put_3 : List UInt8 := dkwX0_put_3 ++ []
def dkwX0_put_2 : List UInt8 := [193, 0, 5, 153, 0, 18, 42, 192, 0, 5, 58, 6, 25, 6, 27, 32, 136, 79, 167, 0, 10, 42]
abbrev dktX0_put_2 : List UInt8 := dkwX0_put_2 ++ dktX0_put_3
def dkwX0_put_1 : List UInt8 := [193, 0, 3, 153, 0, 19, 42, 192, 0, 3, 58, 5, 25, 5, 27, 32, 136, 147, 86, 167, 0, 32, 42]
abbrev dktX0_put_1 : List UInt8 := dkwX0_put_1 ++ dktX0_put_2
def dkwX0_put_0 : List UInt8 := [42, 193, 0, 1, 153, 0, 19, 42, 192, 0, 1, 58, 4, 25, 4, 27, 32, 136, 145, 84, 167, 0, 55, 42]
abbrev dktX0_put_0 : List UInt8 := dkwX0_put_0 ++ dktX0_put_1
theorem dksX0_put_0 : cX0_put.data.toList.drop 0 = dktX0_put_0 := by decide +kernel
theorem dksX0_put_1 : cX0_put.data.toList.drop 24 = dktX0_put_1 := dk_seg dksX0_put_0 24 rfl rfl
theorem dksX0_put_2 : cX0_put.data.toList.drop 47 = dktX0_put_2 := dk_seg dksX0_put_1 23 rfl rfl
theorem dksX0_put_3 : cX0_put.data.toList.drop 69 = dktX0_put_3 := dk_seg dksX0_put_2 22 rfl rfl
theorem dX0_put_0 : decode cX0_put 0 = .ok (.aload_n 0, 1) := dk_42 (dk_at dksX0_put_0 0 rfl rfl)
theorem dX0_put_1 : decode cX0_put 1 = .ok (.instanceof 1, 3) := dk_193 0 1 (dk_at dksX0_put_0 1 rfl rfl)
theorem dX0_put_4 : decode cX0_put 4 = .ok (.ifCond .eq 19, 3) := dk_153 0 19 (dk_at dksX0_put_0 4 rfl rfl)
theorem dX0_put_7 : decode cX0_put 7 = .ok (.aload_n 0, 1) := dk_42 (dk_at dksX0_put_0 7 rfl rfl)
theorem dX0_put_8 : decode cX0_put 8 = .ok (.checkcast 1, 3) := dk_192 0 1 (dk_at dksX0_put_0 8 rfl rfl)
theorem dX0_put_11 : decode cX0_put 11 = .ok (.astore 4, 2) := dk_58 4 (dk_at dksX0_put_0 11 rfl rfl)
theorem dX0_put_13 : decode cX0_put 13 = .ok (.aload 4, 2) := dk_25 4 (dk_at dksX0_put_0 13 rfl rfl)
theorem dX0_put_15 : decode cX0_put 15 = .ok (.iload_n 1, 1) := dk_27 (dk_at dksX0_put_0 15 rfl rfl)
theorem dX0_put_16 : decode cX0_put 16 = .ok (.lload_n 2, 1) := dk_32 (dk_at dksX0_put_0 16 rfl rfl)
theorem dX0_put_17 : decode cX0_put 17 = .ok (.l2i, 1) := dk_136 (dk_at dksX0_put_0 17 rfl rfl)
theorem dX0_put_18 : decode cX0_put 18 = .ok (.i2b, 1) := dk_145 (dk_at dksX0_put_0 18 rfl rfl)
theorem dX0_put_19 : decode cX0_put 19 = .ok (.bastore, 1) := dk_84 (dk_at dksX0_put_0 19 rfl rfl)
theorem dX0_put_20 : decode cX0_put 20 = .ok (.goto 55, 3) := dk_167 0 55 (dk_at dksX0_put_0 20 rfl rfl)
theorem dX0_put_23 : decode cX0_put 23 = .ok (.aload_n 0, 1) := dk_42 (dk_at dksX0_put_0 23 rfl rfl)
theorem dX0_put_24 : decode cX0_put 24 = .ok (.instanceof 3, 3) := dk_193 0 3 (dk_at dksX0_put_1 0 rfl rfl)
theorem dX0_put_27 : decode cX0_put 27 = .ok (.ifCond .eq 19, 3) := dk_153 0 19 (dk_at dksX0_put_1 3 rfl rfl)
theorem dX0_put_30 : decode cX0_put 30 = .ok (.aload_n 0, 1) := dk_42 (dk_at dksX0_put_1 6 rfl rfl)
theorem dX0_put_31 : decode cX0_put 31 = .ok (.checkcast 3, 3) := dk_192 0 3 (dk_at dksX0_put_1 7 rfl rfl)
theorem dX0_put_34 : decode cX0_put 34 = .ok (.astore 5, 2) := dk_58 5 (dk_at dksX0_put_1 10 rfl rfl)
theorem dX0_put_36 : decode cX0_put 36 = .ok (.aload 5, 2) := dk_25 5 (dk_at dksX0_put_1 12 rfl rfl)
theorem dX0_put_38 : decode cX0_put 38 = .ok (.iload_n 1, 1) := dk_27 (dk_at dksX0_put_1 14 rfl rfl)
theorem dX0_put_39 : decode cX0_put 39 = .ok (.lload_n 2, 1) := dk_32 (dk_at dksX0_put_1 15 rfl rfl)
theorem dX0_put_40 : decode cX0_put 40 = .ok (.l2i, 1) := dk_136 (dk_at dksX0_put_1 16 rfl rfl)
theorem dX0_put_41 : decode cX0_put 41 = .ok (.i2s, 1) := dk_147 (dk_at dksX0_put_1 17 rfl rfl)
theorem dX0_put_42 : decode cX0_put 42 = .ok (.sastore, 1) := dk_86 (dk_at dksX0_put_1 18 rfl rfl)
theorem dX0_put_43 : decode cX0_put 43 = .ok (.goto 32, 3) := dk_167 0 32 (dk_at dksX0_put_1 19 rfl rfl)
theorem dX0_put_46 : decode cX0_put 46 = .ok (.aload_n 0, 1) := dk_42 (dk_at dksX0_put_1 22 rfl rfl)
theorem dX0_put_47 : decode cX0_put 47 = .ok (.instanceof 5, 3) := dk_193 0 5 (dk_at dksX0_put_2 0 rfl rfl)
theorem dX0_put_50 : decode cX0_put 50 = .ok (.ifCond .eq 18, 3) := dk_153 0 18 (dk_at dksX0_put_2 3 rfl rfl)
theorem dX0_put_53 : decode cX0_put 53 = .ok (.aload_n 0, 1) := dk_42 (dk_at dksX0_put_2 6 rfl rfl)
theorem dX0_put_54 : decode cX0_put 54 = .ok (.checkcast 5, 3) := dk_192 0 5 (dk_at dksX0_put_2 7 rfl rfl)
theorem dX0_put_57 : decode cX0_put 57 = .ok (.astore 6, 2) := dk_58 6 (dk_at dksX0_put_2 10 rfl rfl)
theorem dX0_put_59 : decode cX0_put 59 = .ok (.aload 6, 2) := dk_25 6 (dk_at dksX0_put_2 12 rfl rfl)
theorem dX0_put_61 : decode cX0_put 61 = .ok (.iload_n 1, 1) := dk_27 (dk_at dksX0_put_2 14 rfl rfl)
theorem dX0_put_62 : decode cX0_put 62 = .ok (.lload_n 2, 1) := dk_32 (dk_at dksX0_put_2 15 rfl rfl)
theorem dX0_put_63 : decode cX0_put 63 = .ok (.l2i, 1) := dk_136 (dk_at dksX0_put_2 16 rfl rfl)
theorem dX0_put_64 : decode cX0_put 64 = .ok (.iastore, 1) := dk_79 (dk_at dksX0_put_2 17 rfl rfl)
theorem dX0_put_65 : decode cX0_put 65 = .ok (.goto 10, 3) := dk_167 0 10 (dk_at dksX0_put_2 18 rfl rfl)
theorem dX0_put_68 : decode cX0_put 68 = .ok (.aload_n 0, 1) := dk_42 (dk_at dksX0_put_2 21 rfl rfl)
theorem dX0_put_69 : decode cX0_put 69 = .ok (.checkcast 7, 3) := dk_192 0 7 (dk_at dksX0_put_3 0 rfl rfl)
theorem dX0_put_72 : decode cX0_put 72 = .ok (.iload_n 1, 1) := dk_27 (dk_at dksX0_put_3 3 rfl rfl)
theorem dX0_put_73 : decode cX0_put 73 = .ok (.lload_n 2, 1) := dk_32 (dk_at dksX0_put_3 4 rfl rfl)
theorem dX0_put_74 : decode cX0_put 74 = .ok (.lastore, 1) := dk_80 (dk_at dksX0_put_3 5 rfl rfl)
theorem dX0_put_75 : decode cX0_put 75 = .ok (.return_, 1) := dk_177 (dk_at dksX0_put_3 6 rfl rfl)
abbrev cX0_read : ByteArray := prog_1_method_17_code
def yX0_read : MethodName := ⟨RX0, "read", "(II)J"⟩
def dkwX0_read_1 : List UInt8 := [173, 78, 42, 45, 182, 0, 140, 133, 173]
abbrev dktX0_read_1 : List UInt8 := dkwX0_read_1 ++ []
def dkwX0_read_0 : List UInt8 := [42, 3, 181, 0, 82, 42, 27, 182, 0, 124, 28, 184, 0, 134, 173, 78, 42, 6, 181, 0, 82, 20, 0, 138]
abbrev dktX0_read_0 : List UInt8 := dkwX0_read_0 ++ dktX0_read_1
theorem dksX0_read_0 : cX0_read.data.toList.drop 0 = dktX0_read_0 := by decide +kernel
theorem dksX0_read_1 : cX0_read.data.toList.drop 24 = dktX0_read_1 := dk_seg dksX0_read_0 24 rfl rfl
theorem dX0_read_0 : decode cX0_read 0 = .ok (.aload_n 0, 1) := dk_42 (dk_at dksX0_read_0 0 rfl rfl)
theorem dX0_read_1 : decode cX0_read 1 = .ok (.iconst 0, 1) := dk_3 (dk_at dksX0_read_0 1 rfl rfl)
theorem dX0_read_2 : decode cX0_read 2 = .ok (.putfield 82, 3) := dk_181 0 82 (dk_at dksX0_read_0 2 rfl rfl)
theorem dX0_read_5 : decode cX0_read 5 = .ok (.aload_n 0, 1) := dk_42 (dk_at dksX0_read_0 5 rfl rfl)
theorem dX0_read_6 : decode cX0_read 6 = .ok (.iload_n 1, 1) := dk_27 (dk_at dksX0_read_0 6 rfl rfl)
theorem dX0_read_7 : decode cX0_read 7 = .ok (.invokevirtual 124, 3) := dk_182 0 124 (dk_at dksX0_read_0 7 rfl rfl)
theorem dX0_read_10 : decode cX0_read 10 = .ok (.iload_n 2, 1) := dk_28 (dk_at dksX0_read_0 10 rfl rfl)
theorem dX0_read_11 : decode cX0_read 11 = .ok (.invokestatic 134, 3) := dk_184 0 134 (dk_at dksX0_read_0 11 rfl rfl)
theorem dX0_read_14 : decode cX0_read 14 = .ok (.lreturn, 1) := dk_173 (dk_at dksX0_read_0 14 rfl rfl)
theorem dX0_read_15 : decode cX0_read 15 = .ok (.astore_n 3, 1) := dk_78 (dk_at dksX0_read_0 15 rfl rfl)
theorem dX0_read_16 : decode cX0_read 16 = .ok (.aload_n 0, 1) := dk_42 (dk_at dksX0_read_0 16 rfl rfl)
theorem dX0_read_17 : decode cX0_read 17 = .ok (.iconst 3, 1) := dk_6 (dk_at dksX0_read_0 17 rfl rfl)
theorem dX0_read_18 : decode cX0_read 18 = .ok (.putfield 82, 3) := dk_181 0 82 (dk_at dksX0_read_0 18 rfl rfl)
theorem dX0_read_21 : decode cX0_read 21 = .ok (.ldc2_w 138, 3) := dk_20 0 138 (dk_at dksX0_read_0 21 rfl rfl)
theorem dX0_read_24 : decode cX0_read 24 = .ok (.lreturn, 1) := dk_173 (dk_at dksX0_read_1 0 rfl rfl)
theorem dX0_read_25 : decode cX0_read 25 = .ok (.astore_n 3, 1) := dk_78 (dk_at dksX0_read_1 1 rfl rfl)
theorem dX0_read_26 : decode cX0_read 26 = .ok (.aload_n 0, 1) := dk_42 (dk_at dksX0_read_1 2 rfl rfl)
theorem dX0_read_27 : decode cX0_read 27 = .ok (.aload_n 3, 1) := dk_45 (dk_at dksX0_read_1 3 rfl rfl)
theorem dX0_read_28 : decode cX0_read 28 = .ok (.invokevirtual 140, 3) := dk_182 0 140 (dk_at dksX0_read_1 4 rfl rfl)
theorem dX0_read_31 : decode cX0_read 31 = .ok (.i2l, 1) := dk_133 (dk_at dksX0_read_1 7 rfl rfl)
theorem dX0_read_32 : decode cX0_read 32 = .ok (.lreturn, 1) := dk_173 (dk_at dksX0_read_1 8 rfl rfl)
abbrev cX0_number : ByteArray := prog_1_method_4_code
def yX0_number : MethodName := ⟨RX0, "number", "(Ljava/lang/Object;I)J"⟩
def dkwX0_number_2 : List UInt8 := [46, 133, 167, 0, 9, 42, 192, 0, 7, 27, 47, 173]
abbrev dktX0_number_2 : List UInt8 := dkwX0_number_2 ++ []
def dkwX0_number_1 : List UInt8 := [42, 192, 0, 3, 77, 44, 27, 53, 133, 173, 42, 193, 0, 5, 153, 0, 15, 42, 192, 0, 5, 77, 44, 27]
abbrev dktX0_number_1 : List UInt8 := dkwX0_number_1 ++ dktX0_number_2
def dkwX0_number_0 : List UInt8 := [42, 193, 0, 1, 153, 0, 13, 42, 192, 0, 1, 77, 44, 27, 51, 133, 173, 42, 193, 0, 3, 153, 0, 13]
abbrev dktX0_number_0 : List UInt8 := dkwX0_number_0 ++ dktX0_number_1
theorem dksX0_number_0 : cX0_number.data.toList.drop 0 = dktX0_number_0 := by decide +kernel
theorem dksX0_number_1 : cX0_number.data.toList.drop 24 = dktX0_number_1 := dk_seg dksX0_number_0 24 rfl rfl
theorem dksX0_number_2 : cX0_number.data.toList.drop 48 = dktX0_number_2 := dk_seg dksX0_number_1 24 rfl rfl
theorem dX0_number_0 : decode cX0_number 0 = .ok (.aload_n 0, 1) := dk_42 (dk_at dksX0_number_0 0 rfl rfl)
theorem dX0_number_1 : decode cX0_number 1 = .ok (.instanceof 1, 3) := dk_193 0 1 (dk_at dksX0_number_0 1 rfl rfl)
theorem dX0_number_4 : decode cX0_number 4 = .ok (.ifCond .eq 13, 3) := dk_153 0 13 (dk_at dksX0_number_0 4 rfl rfl)
theorem dX0_number_7 : decode cX0_number 7 = .ok (.aload_n 0, 1) := dk_42 (dk_at dksX0_number_0 7 rfl rfl)
theorem dX0_number_8 : decode cX0_number 8 = .ok (.checkcast 1, 3) := dk_192 0 1 (dk_at dksX0_number_0 8 rfl rfl)
theorem dX0_number_11 : decode cX0_number 11 = .ok (.astore_n 2, 1) := dk_77 (dk_at dksX0_number_0 11 rfl rfl)
theorem dX0_number_12 : decode cX0_number 12 = .ok (.aload_n 2, 1) := dk_44 (dk_at dksX0_number_0 12 rfl rfl)
theorem dX0_number_13 : decode cX0_number 13 = .ok (.iload_n 1, 1) := dk_27 (dk_at dksX0_number_0 13 rfl rfl)
theorem dX0_number_14 : decode cX0_number 14 = .ok (.baload, 1) := dk_51 (dk_at dksX0_number_0 14 rfl rfl)
theorem dX0_number_15 : decode cX0_number 15 = .ok (.i2l, 1) := dk_133 (dk_at dksX0_number_0 15 rfl rfl)
theorem dX0_number_16 : decode cX0_number 16 = .ok (.lreturn, 1) := dk_173 (dk_at dksX0_number_0 16 rfl rfl)
theorem dX0_number_17 : decode cX0_number 17 = .ok (.aload_n 0, 1) := dk_42 (dk_at dksX0_number_0 17 rfl rfl)
theorem dX0_number_18 : decode cX0_number 18 = .ok (.instanceof 3, 3) := dk_193 0 3 (dk_at dksX0_number_0 18 rfl rfl)
theorem dX0_number_21 : decode cX0_number 21 = .ok (.ifCond .eq 13, 3) := dk_153 0 13 (dk_at dksX0_number_0 21 rfl rfl)
theorem dX0_number_24 : decode cX0_number 24 = .ok (.aload_n 0, 1) := dk_42 (dk_at dksX0_number_1 0 rfl rfl)
theorem dX0_number_25 : decode cX0_number 25 = .ok (.checkcast 3, 3) := dk_192 0 3 (dk_at dksX0_number_1 1 rfl rfl)
theorem dX0_number_28 : decode cX0_number 28 = .ok (.astore_n 2, 1) := dk_77 (dk_at dksX0_number_1 4 rfl rfl)
theorem dX0_number_29 : decode cX0_number 29 = .ok (.aload_n 2, 1) := dk_44 (dk_at dksX0_number_1 5 rfl rfl)
theorem dX0_number_30 : decode cX0_number 30 = .ok (.iload_n 1, 1) := dk_27 (dk_at dksX0_number_1 6 rfl rfl)
theorem dX0_number_31 : decode cX0_number 31 = .ok (.saload, 1) := dk_53 (dk_at dksX0_number_1 7 rfl rfl)
theorem dX0_number_32 : decode cX0_number 32 = .ok (.i2l, 1) := dk_133 (dk_at dksX0_number_1 8 rfl rfl)
theorem dX0_number_33 : decode cX0_number 33 = .ok (.lreturn, 1) := dk_173 (dk_at dksX0_number_1 9 rfl rfl)
theorem dX0_number_34 : decode cX0_number 34 = .ok (.aload_n 0, 1) := dk_42 (dk_at dksX0_number_1 10 rfl rfl)
theorem dX0_number_35 : decode cX0_number 35 = .ok (.instanceof 5, 3) := dk_193 0 5 (dk_at dksX0_number_1 11 rfl rfl)
theorem dX0_number_38 : decode cX0_number 38 = .ok (.ifCond .eq 15, 3) := dk_153 0 15 (dk_at dksX0_number_1 14 rfl rfl)
theorem dX0_number_41 : decode cX0_number 41 = .ok (.aload_n 0, 1) := dk_42 (dk_at dksX0_number_1 17 rfl rfl)
theorem dX0_number_42 : decode cX0_number 42 = .ok (.checkcast 5, 3) := dk_192 0 5 (dk_at dksX0_number_1 18 rfl rfl)
theorem dX0_number_45 : decode cX0_number 45 = .ok (.astore_n 2, 1) := dk_77 (dk_at dksX0_number_1 21 rfl rfl)
theorem dX0_number_46 : decode cX0_number 46 = .ok (.aload_n 2, 1) := dk_44 (dk_at dksX0_number_1 22 rfl rfl)
theorem dX0_number_47 : decode cX0_number 47 = .ok (.iload_n 1, 1) := dk_27 (dk_at dksX0_number_1 23 rfl rfl)
theorem dX0_number_48 : decode cX0_number 48 = .ok (.iaload, 1) := dk_46 (dk_at dksX0_number_2 0 rfl rfl)
theorem dX0_number_49 : decode cX0_number 49 = .ok (.i2l, 1) := dk_133 (dk_at dksX0_number_2 1 rfl rfl)
theorem dX0_number_50 : decode cX0_number 50 = .ok (.goto 9, 3) := dk_167 0 9 (dk_at dksX0_number_2 2 rfl rfl)
theorem dX0_number_53 : decode cX0_number 53 = .ok (.aload_n 0, 1) := dk_42 (dk_at dksX0_number_2 5 rfl rfl)
theorem dX0_number_54 : decode cX0_number 54 = .ok (.checkcast 7, 3) := dk_192 0 7 (dk_at dksX0_number_2 6 rfl rfl)
theorem dX0_number_57 : decode cX0_number 57 = .ok (.iload_n 1, 1) := dk_27 (dk_at dksX0_number_2 9 rfl rfl)
theorem dX0_number_58 : decode cX0_number 58 = .ok (.laload, 1) := dk_47 (dk_at dksX0_number_2 10 rfl rfl)
theorem dX0_number_59 : decode cX0_number 59 = .ok (.lreturn, 1) := dk_173 (dk_at dksX0_number_2 11 rfl rfl)
abbrev cX0_none : ByteArray := prog_1_method_11_code
def yX0_none : MethodName := ⟨RX0, "none", "(LLetMe$Refused;)I"⟩
def dkwX0_none_0 : List UInt8 := [42, 43, 180, 0, 92, 181, 0, 82, 2, 172]
abbrev dktX0_none_0 : List UInt8 := dkwX0_none_0 ++ []
theorem dksX0_none_0 : cX0_none.data.toList.drop 0 = dktX0_none_0 := by decide +kernel
theorem dX0_none_0 : decode cX0_none 0 = .ok (.aload_n 0, 1) := dk_42 (dk_at dksX0_none_0 0 rfl rfl)
theorem dX0_none_1 : decode cX0_none 1 = .ok (.aload_n 1, 1) := dk_43 (dk_at dksX0_none_0 1 rfl rfl)
theorem dX0_none_2 : decode cX0_none 2 = .ok (.getfield 92, 3) := dk_180 0 92 (dk_at dksX0_none_0 2 rfl rfl)
theorem dX0_none_5 : decode cX0_none 5 = .ok (.putfield 82, 3) := dk_181 0 82 (dk_at dksX0_none_0 5 rfl rfl)
theorem dX0_none_8 : decode cX0_none 8 = .ok (.iconst (-1), 1) := dk_2 (dk_at dksX0_none_0 8 rfl rfl)
theorem dX0_none_9 : decode cX0_none 9 = .ok (.ireturn, 1) := dk_172 (dk_at dksX0_none_0 9 rfl rfl)
abbrev cX0_pour : ByteArray := prog_1_method_18_code
def yX0_pour : MethodName := ⟨RX0, "pour", "(IIIII)Z"⟩
def dkwX0_pour_5 : List UInt8 := [182, 0, 120, 172]
abbrev dktX0_pour_5 : List UInt8 := dkwX0_pour_5 ++ []
def dkwX0_pour_4 : List UInt8 := [184, 0, 148, 167, 0, 14, 58, 8, 42, 180, 0, 44, 6, 182, 0, 88, 191, 4, 172, 58, 6, 42, 25, 6]
abbrev dktX0_pour_4 : List UInt8 := dkwX0_pour_4 ++ dktX0_pour_5
def dkwX0_pour_3 : List UInt8 := [160, 0, 7, 4, 167, 0, 4, 3, 16, 8, 182, 0, 107, 25, 6, 28, 25, 7, 21, 4, 21, 5]
abbrev dktX0_pour_3 : List UInt8 := dkwX0_pour_3 ++ dktX0_pour_4
def dkwX0_pour_2 : List UInt8 := [27, 182, 0, 124, 58, 6, 42, 29, 182, 0, 124, 58, 7, 42, 25, 6, 184, 0, 144, 25, 7, 184, 0, 144]
abbrev dktX0_pour_2 : List UInt8 := dkwX0_pour_2 ++ dktX0_pour_3
def dkwX0_pour_1 : List UInt8 := [28, 155, 0, 17, 21, 4, 155, 0, 12, 21, 5, 155, 0, 7, 4, 167, 0, 4, 3, 4, 182, 0, 107, 42]
abbrev dktX0_pour_1 : List UInt8 := dkwX0_pour_1 ++ dktX0_pour_2
def dkwX0_pour_0 : List UInt8 := [42, 3, 181, 0, 82, 42, 27, 155, 0, 35, 27, 7, 162, 0, 30, 29, 155, 0, 26, 29, 7, 162, 0, 21]
abbrev dktX0_pour_0 : List UInt8 := dkwX0_pour_0 ++ dktX0_pour_1
theorem dksX0_pour_0 : cX0_pour.data.toList.drop 0 = dktX0_pour_0 := by decide +kernel
theorem dksX0_pour_1 : cX0_pour.data.toList.drop 24 = dktX0_pour_1 := dk_seg dksX0_pour_0 24 rfl rfl
theorem dksX0_pour_2 : cX0_pour.data.toList.drop 48 = dktX0_pour_2 := dk_seg dksX0_pour_1 24 rfl rfl
theorem dksX0_pour_3 : cX0_pour.data.toList.drop 72 = dktX0_pour_3 := dk_seg dksX0_pour_2 24 rfl rfl
theorem dksX0_pour_4 : cX0_pour.data.toList.drop 94 = dktX0_pour_4 := dk_seg dksX0_pour_3 22 rfl rfl
theorem dksX0_pour_5 : cX0_pour.data.toList.drop 118 = dktX0_pour_5 := dk_seg dksX0_pour_4 24 rfl rfl
theorem dX0_pour_0 : decode cX0_pour 0 = .ok (.aload_n 0, 1) := dk_42 (dk_at dksX0_pour_0 0 rfl rfl)
theorem dX0_pour_1 : decode cX0_pour 1 = .ok (.iconst 0, 1) := dk_3 (dk_at dksX0_pour_0 1 rfl rfl)
theorem dX0_pour_2 : decode cX0_pour 2 = .ok (.putfield 82, 3) := dk_181 0 82 (dk_at dksX0_pour_0 2 rfl rfl)
theorem dX0_pour_5 : decode cX0_pour 5 = .ok (.aload_n 0, 1) := dk_42 (dk_at dksX0_pour_0 5 rfl rfl)
theorem dX0_pour_6 : decode cX0_pour 6 = .ok (.iload_n 1, 1) := dk_27 (dk_at dksX0_pour_0 6 rfl rfl)
theorem dX0_pour_7 : decode cX0_pour 7 = .ok (.ifCond .lt 35, 3) := dk_155 0 35 (dk_at dksX0_pour_0 7 rfl rfl)
theorem dX0_pour_10 : decode cX0_pour 10 = .ok (.iload_n 1, 1) := dk_27 (dk_at dksX0_pour_0 10 rfl rfl)
theorem dX0_pour_11 : decode cX0_pour 11 = .ok (.iconst 4, 1) := dk_7 (dk_at dksX0_pour_0 11 rfl rfl)
theorem dX0_pour_12 : decode cX0_pour 12 = .ok (.if_icmp .ge 30, 3) := dk_162 0 30 (dk_at dksX0_pour_0 12 rfl rfl)
theorem dX0_pour_15 : decode cX0_pour 15 = .ok (.iload_n 3, 1) := dk_29 (dk_at dksX0_pour_0 15 rfl rfl)
theorem dX0_pour_16 : decode cX0_pour 16 = .ok (.ifCond .lt 26, 3) := dk_155 0 26 (dk_at dksX0_pour_0 16 rfl rfl)
theorem dX0_pour_19 : decode cX0_pour 19 = .ok (.iload_n 3, 1) := dk_29 (dk_at dksX0_pour_0 19 rfl rfl)
theorem dX0_pour_20 : decode cX0_pour 20 = .ok (.iconst 4, 1) := dk_7 (dk_at dksX0_pour_0 20 rfl rfl)
theorem dX0_pour_21 : decode cX0_pour 21 = .ok (.if_icmp .ge 21, 3) := dk_162 0 21 (dk_at dksX0_pour_0 21 rfl rfl)
theorem dX0_pour_24 : decode cX0_pour 24 = .ok (.iload_n 2, 1) := dk_28 (dk_at dksX0_pour_1 0 rfl rfl)
theorem dX0_pour_25 : decode cX0_pour 25 = .ok (.ifCond .lt 17, 3) := dk_155 0 17 (dk_at dksX0_pour_1 1 rfl rfl)
theorem dX0_pour_28 : decode cX0_pour 28 = .ok (.iload 4, 2) := dk_21 4 (dk_at dksX0_pour_1 4 rfl rfl)
theorem dX0_pour_30 : decode cX0_pour 30 = .ok (.ifCond .lt 12, 3) := dk_155 0 12 (dk_at dksX0_pour_1 6 rfl rfl)
theorem dX0_pour_33 : decode cX0_pour 33 = .ok (.iload 5, 2) := dk_21 5 (dk_at dksX0_pour_1 9 rfl rfl)
theorem dX0_pour_35 : decode cX0_pour 35 = .ok (.ifCond .lt 7, 3) := dk_155 0 7 (dk_at dksX0_pour_1 11 rfl rfl)
theorem dX0_pour_38 : decode cX0_pour 38 = .ok (.iconst 1, 1) := dk_4 (dk_at dksX0_pour_1 14 rfl rfl)
theorem dX0_pour_39 : decode cX0_pour 39 = .ok (.goto 4, 3) := dk_167 0 4 (dk_at dksX0_pour_1 15 rfl rfl)
theorem dX0_pour_42 : decode cX0_pour 42 = .ok (.iconst 0, 1) := dk_3 (dk_at dksX0_pour_1 18 rfl rfl)
theorem dX0_pour_43 : decode cX0_pour 43 = .ok (.iconst 1, 1) := dk_4 (dk_at dksX0_pour_1 19 rfl rfl)
theorem dX0_pour_44 : decode cX0_pour 44 = .ok (.invokevirtual 107, 3) := dk_182 0 107 (dk_at dksX0_pour_1 20 rfl rfl)
theorem dX0_pour_47 : decode cX0_pour 47 = .ok (.aload_n 0, 1) := dk_42 (dk_at dksX0_pour_1 23 rfl rfl)
theorem dX0_pour_48 : decode cX0_pour 48 = .ok (.iload_n 1, 1) := dk_27 (dk_at dksX0_pour_2 0 rfl rfl)
theorem dX0_pour_49 : decode cX0_pour 49 = .ok (.invokevirtual 124, 3) := dk_182 0 124 (dk_at dksX0_pour_2 1 rfl rfl)
theorem dX0_pour_52 : decode cX0_pour 52 = .ok (.astore 6, 2) := dk_58 6 (dk_at dksX0_pour_2 4 rfl rfl)
theorem dX0_pour_54 : decode cX0_pour 54 = .ok (.aload_n 0, 1) := dk_42 (dk_at dksX0_pour_2 6 rfl rfl)
theorem dX0_pour_55 : decode cX0_pour 55 = .ok (.iload_n 3, 1) := dk_29 (dk_at dksX0_pour_2 7 rfl rfl)
theorem dX0_pour_56 : decode cX0_pour 56 = .ok (.invokevirtual 124, 3) := dk_182 0 124 (dk_at dksX0_pour_2 8 rfl rfl)
theorem dX0_pour_59 : decode cX0_pour 59 = .ok (.astore 7, 2) := dk_58 7 (dk_at dksX0_pour_2 11 rfl rfl)
theorem dX0_pour_61 : decode cX0_pour 61 = .ok (.aload_n 0, 1) := dk_42 (dk_at dksX0_pour_2 13 rfl rfl)
theorem dX0_pour_62 : decode cX0_pour 62 = .ok (.aload 6, 2) := dk_25 6 (dk_at dksX0_pour_2 14 rfl rfl)
theorem dX0_pour_64 : decode cX0_pour 64 = .ok (.invokestatic 144, 3) := dk_184 0 144 (dk_at dksX0_pour_2 16 rfl rfl)
theorem dX0_pour_67 : decode cX0_pour 67 = .ok (.aload 7, 2) := dk_25 7 (dk_at dksX0_pour_2 19 rfl rfl)
theorem dX0_pour_69 : decode cX0_pour 69 = .ok (.invokestatic 144, 3) := dk_184 0 144 (dk_at dksX0_pour_2 21 rfl rfl)
theorem dX0_pour_72 : decode cX0_pour 72 = .ok (.if_icmp .ne 7, 3) := dk_160 0 7 (dk_at dksX0_pour_3 0 rfl rfl)
theorem dX0_pour_75 : decode cX0_pour 75 = .ok (.iconst 1, 1) := dk_4 (dk_at dksX0_pour_3 3 rfl rfl)
theorem dX0_pour_76 : decode cX0_pour 76 = .ok (.goto 4, 3) := dk_167 0 4 (dk_at dksX0_pour_3 4 rfl rfl)
theorem dX0_pour_79 : decode cX0_pour 79 = .ok (.iconst 0, 1) := dk_3 (dk_at dksX0_pour_3 7 rfl rfl)
theorem dX0_pour_80 : decode cX0_pour 80 = .ok (.bipush 8, 2) := dk_16 8 (dk_at dksX0_pour_3 8 rfl rfl)
theorem dX0_pour_82 : decode cX0_pour 82 = .ok (.invokevirtual 107, 3) := dk_182 0 107 (dk_at dksX0_pour_3 10 rfl rfl)
theorem dX0_pour_85 : decode cX0_pour 85 = .ok (.aload 6, 2) := dk_25 6 (dk_at dksX0_pour_3 13 rfl rfl)
theorem dX0_pour_87 : decode cX0_pour 87 = .ok (.iload_n 2, 1) := dk_28 (dk_at dksX0_pour_3 15 rfl rfl)
theorem dX0_pour_88 : decode cX0_pour 88 = .ok (.aload 7, 2) := dk_25 7 (dk_at dksX0_pour_3 16 rfl rfl)
theorem dX0_pour_90 : decode cX0_pour 90 = .ok (.iload 4, 2) := dk_21 4 (dk_at dksX0_pour_3 18 rfl rfl)
theorem dX0_pour_92 : decode cX0_pour 92 = .ok (.iload 5, 2) := dk_21 5 (dk_at dksX0_pour_3 20 rfl rfl)
theorem dX0_pour_94 : decode cX0_pour 94 = .ok (.invokestatic 148, 3) := dk_184 0 148 (dk_at dksX0_pour_4 0 rfl rfl)
theorem dX0_pour_97 : decode cX0_pour 97 = .ok (.goto 14, 3) := dk_167 0 14 (dk_at dksX0_pour_4 3 rfl rfl)
theorem dX0_pour_100 : decode cX0_pour 100 = .ok (.astore 8, 2) := dk_58 8 (dk_at dksX0_pour_4 6 rfl rfl)
theorem dX0_pour_102 : decode cX0_pour 102 = .ok (.aload_n 0, 1) := dk_42 (dk_at dksX0_pour_4 8 rfl rfl)
theorem dX0_pour_103 : decode cX0_pour 103 = .ok (.getfield 44, 3) := dk_180 0 44 (dk_at dksX0_pour_4 9 rfl rfl)
theorem dX0_pour_106 : decode cX0_pour 106 = .ok (.iconst 3, 1) := dk_6 (dk_at dksX0_pour_4 12 rfl rfl)
theorem dX0_pour_107 : decode cX0_pour 107 = .ok (.invokevirtual 88, 3) := dk_182 0 88 (dk_at dksX0_pour_4 13 rfl rfl)
theorem dX0_pour_110 : decode cX0_pour 110 = .ok (.athrow, 1) := dk_191 (dk_at dksX0_pour_4 16 rfl rfl)
theorem dX0_pour_111 : decode cX0_pour 111 = .ok (.iconst 1, 1) := dk_4 (dk_at dksX0_pour_4 17 rfl rfl)
theorem dX0_pour_112 : decode cX0_pour 112 = .ok (.ireturn, 1) := dk_172 (dk_at dksX0_pour_4 18 rfl rfl)
theorem dX0_pour_113 : decode cX0_pour 113 = .ok (.astore 6, 2) := dk_58 6 (dk_at dksX0_pour_4 19 rfl rfl)
theorem dX0_pour_115 : decode cX0_pour 115 = .ok (.aload_n 0, 1) := dk_42 (dk_at dksX0_pour_4 21 rfl rfl)
theorem dX0_pour_116 : decode cX0_pour 116 = .ok (.aload 6, 2) := dk_25 6 (dk_at dksX0_pour_4 22 rfl rfl)
theorem dX0_pour_118 : decode cX0_pour 118 = .ok (.invokevirtual 120, 3) := dk_182 0 120 (dk_at dksX0_pour_5 0 rfl rfl)
theorem dX0_pour_121 : decode cX0_pour 121 = .ok (.ireturn, 1) := dk_172 (dk_at dksX0_pour_5 3 rfl rfl)
abbrev cX0_sortOf : ByteArray := prog_1_method_2_code
def yX0_sortOf : MethodName := ⟨RX0, "sortOf", "(Ljava/lang/Object;)I"⟩
def dkwX0_sortOf_1 : List UInt8 := [193, 0, 5, 153, 0, 7, 5, 167, 0, 4, 6, 172]
abbrev dktX0_sortOf_1 : List UInt8 := dkwX0_sortOf_1 ++ []
def dkwX0_sortOf_0 : List UInt8 := [42, 193, 0, 1, 153, 0, 7, 3, 167, 0, 26, 42, 193, 0, 3, 153, 0, 7, 4, 167, 0, 15, 42]
abbrev dktX0_sortOf_0 : List UInt8 := dkwX0_sortOf_0 ++ dktX0_sortOf_1
theorem dksX0_sortOf_0 : cX0_sortOf.data.toList.drop 0 = dktX0_sortOf_0 := by decide +kernel
theorem dksX0_sortOf_1 : cX0_sortOf.data.toList.drop 23 = dktX0_sortOf_1 := dk_seg dksX0_sortOf_0 23 rfl rfl
theorem dX0_sortOf_0 : decode cX0_sortOf 0 = .ok (.aload_n 0, 1) := dk_42 (dk_at dksX0_sortOf_0 0 rfl rfl)
theorem dX0_sortOf_1 : decode cX0_sortOf 1 = .ok (.instanceof 1, 3) := dk_193 0 1 (dk_at dksX0_sortOf_0 1 rfl rfl)
theorem dX0_sortOf_4 : decode cX0_sortOf 4 = .ok (.ifCond .eq 7, 3) := dk_153 0 7 (dk_at dksX0_sortOf_0 4 rfl rfl)
theorem dX0_sortOf_7 : decode cX0_sortOf 7 = .ok (.iconst 0, 1) := dk_3 (dk_at dksX0_sortOf_0 7 rfl rfl)
theorem dX0_sortOf_8 : decode cX0_sortOf 8 = .ok (.goto 26, 3) := dk_167 0 26 (dk_at dksX0_sortOf_0 8 rfl rfl)
theorem dX0_sortOf_11 : decode cX0_sortOf 11 = .ok (.aload_n 0, 1) := dk_42 (dk_at dksX0_sortOf_0 11 rfl rfl)
theorem dX0_sortOf_12 : decode cX0_sortOf 12 = .ok (.instanceof 3, 3) := dk_193 0 3 (dk_at dksX0_sortOf_0 12 rfl rfl)
theorem dX0_sortOf_15 : decode cX0_sortOf 15 = .ok (.ifCond .eq 7, 3) := dk_153 0 7 (dk_at dksX0_sortOf_0 15 rfl rfl)
theorem dX0_sortOf_18 : decode cX0_sortOf 18 = .ok (.iconst 1, 1) := dk_4 (dk_at dksX0_sortOf_0 18 rfl rfl)
theorem dX0_sortOf_19 : decode cX0_sortOf 19 = .ok (.goto 15, 3) := dk_167 0 15 (dk_at dksX0_sortOf_0 19 rfl rfl)
theorem dX0_sortOf_22 : decode cX0_sortOf 22 = .ok (.aload_n 0, 1) := dk_42 (dk_at dksX0_sortOf_0 22 rfl rfl)
theorem dX0_sortOf_23 : decode cX0_sortOf 23 = .ok (.instanceof 5, 3) := dk_193 0 5 (dk_at dksX0_sortOf_1 0 rfl rfl)
theorem dX0_sortOf_26 : decode cX0_sortOf 26 = .ok (.ifCond .eq 7, 3) := dk_153 0 7 (dk_at dksX0_sortOf_1 3 rfl rfl)
theorem dX0_sortOf_29 : decode cX0_sortOf 29 = .ok (.iconst 2, 1) := dk_5 (dk_at dksX0_sortOf_1 6 rfl rfl)
theorem dX0_sortOf_30 : decode cX0_sortOf 30 = .ok (.goto 4, 3) := dk_167 0 4 (dk_at dksX0_sortOf_1 7 rfl rfl)
theorem dX0_sortOf_33 : decode cX0_sortOf 33 = .ok (.iconst 3, 1) := dk_6 (dk_at dksX0_sortOf_1 10 rfl rfl)
theorem dX0_sortOf_34 : decode cX0_sortOf 34 = .ok (.ireturn, 1) := dk_172 (dk_at dksX0_sortOf_1 11 rfl rfl)
abbrev cX0_feed : ByteArray := prog_1_method_28_code
def yX0_feed : MethodName := ⟨RX0, "feed", "(IIIII)I"⟩
def dkwX0_feed_2 : List UInt8 := [172]
abbrev dktX0_feed_2 : List UInt8 := dkwX0_feed_2 ++ []
def dkwX0_feed_1 : List UInt8 := [182, 0, 185, 42, 29, 182, 0, 185, 42, 21, 4, 182, 0, 185, 42, 21, 5, 182, 0, 185, 42, 180, 0, 182]
abbrev dktX0_feed_1 : List UInt8 := dkwX0_feed_1 ++ dktX0_feed_2
def dkwX0_feed_0 : List UInt8 := [42, 180, 0, 182, 16, 20, 96, 17, 3, 132, 164, 0, 5, 2, 172, 42, 27, 182, 0, 185, 42, 28]
abbrev dktX0_feed_0 : List UInt8 := dkwX0_feed_0 ++ dktX0_feed_1
theorem dksX0_feed_0 : cX0_feed.data.toList.drop 0 = dktX0_feed_0 := by decide +kernel
theorem dksX0_feed_1 : cX0_feed.data.toList.drop 22 = dktX0_feed_1 := dk_seg dksX0_feed_0 22 rfl rfl
theorem dksX0_feed_2 : cX0_feed.data.toList.drop 46 = dktX0_feed_2 := dk_seg dksX0_feed_1 24 rfl rfl
theorem dX0_feed_0 : decode cX0_feed 0 = .ok (.aload_n 0, 1) := dk_42 (dk_at dksX0_feed_0 0 rfl rfl)
theorem dX0_feed_1 : decode cX0_feed 1 = .ok (.getfield 182, 3) := dk_180 0 182 (dk_at dksX0_feed_0 1 rfl rfl)
theorem dX0_feed_4 : decode cX0_feed 4 = .ok (.bipush 20, 2) := dk_16 20 (dk_at dksX0_feed_0 4 rfl rfl)
theorem dX0_feed_6 : decode cX0_feed 6 = .ok (.iadd, 1) := dk_96 (dk_at dksX0_feed_0 6 rfl rfl)
theorem dX0_feed_7 : decode cX0_feed 7 = .ok (.sipush 900, 3) := dk_17 3 132 (dk_at dksX0_feed_0 7 rfl rfl)
theorem dX0_feed_10 : decode cX0_feed 10 = .ok (.if_icmp .le 5, 3) := dk_164 0 5 (dk_at dksX0_feed_0 10 rfl rfl)
theorem dX0_feed_13 : decode cX0_feed 13 = .ok (.iconst (-1), 1) := dk_2 (dk_at dksX0_feed_0 13 rfl rfl)
theorem dX0_feed_14 : decode cX0_feed 14 = .ok (.ireturn, 1) := dk_172 (dk_at dksX0_feed_0 14 rfl rfl)
theorem dX0_feed_15 : decode cX0_feed 15 = .ok (.aload_n 0, 1) := dk_42 (dk_at dksX0_feed_0 15 rfl rfl)
theorem dX0_feed_16 : decode cX0_feed 16 = .ok (.iload_n 1, 1) := dk_27 (dk_at dksX0_feed_0 16 rfl rfl)
theorem dX0_feed_17 : decode cX0_feed 17 = .ok (.invokevirtual 185, 3) := dk_182 0 185 (dk_at dksX0_feed_0 17 rfl rfl)
theorem dX0_feed_20 : decode cX0_feed 20 = .ok (.aload_n 0, 1) := dk_42 (dk_at dksX0_feed_0 20 rfl rfl)
theorem dX0_feed_21 : decode cX0_feed 21 = .ok (.iload_n 2, 1) := dk_28 (dk_at dksX0_feed_0 21 rfl rfl)
theorem dX0_feed_22 : decode cX0_feed 22 = .ok (.invokevirtual 185, 3) := dk_182 0 185 (dk_at dksX0_feed_1 0 rfl rfl)
theorem dX0_feed_25 : decode cX0_feed 25 = .ok (.aload_n 0, 1) := dk_42 (dk_at dksX0_feed_1 3 rfl rfl)
theorem dX0_feed_26 : decode cX0_feed 26 = .ok (.iload_n 3, 1) := dk_29 (dk_at dksX0_feed_1 4 rfl rfl)
theorem dX0_feed_27 : decode cX0_feed 27 = .ok (.invokevirtual 185, 3) := dk_182 0 185 (dk_at dksX0_feed_1 5 rfl rfl)
theorem dX0_feed_30 : decode cX0_feed 30 = .ok (.aload_n 0, 1) := dk_42 (dk_at dksX0_feed_1 8 rfl rfl)
theorem dX0_feed_31 : decode cX0_feed 31 = .ok (.iload 4, 2) := dk_21 4 (dk_at dksX0_feed_1 9 rfl rfl)
theorem dX0_feed_33 : decode cX0_feed 33 = .ok (.invokevirtual 185, 3) := dk_182 0 185 (dk_at dksX0_feed_1 11 rfl rfl)
theorem dX0_feed_36 : decode cX0_feed 36 = .ok (.aload_n 0, 1) := dk_42 (dk_at dksX0_feed_1 14 rfl rfl)
theorem dX0_feed_37 : decode cX0_feed 37 = .ok (.iload 5, 2) := dk_21 5 (dk_at dksX0_feed_1 15 rfl rfl)
theorem dX0_feed_39 : decode cX0_feed 39 = .ok (.invokevirtual 185, 3) := dk_182 0 185 (dk_at dksX0_feed_1 17 rfl rfl)
theorem dX0_feed_42 : decode cX0_feed 42 = .ok (.aload_n 0, 1) := dk_42 (dk_at dksX0_feed_1 20 rfl rfl)
theorem dX0_feed_43 : decode cX0_feed 43 = .ok (.getfield 182, 3) := dk_180 0 182 (dk_at dksX0_feed_1 21 rfl rfl)
theorem dX0_feed_46 : decode cX0_feed 46 = .ok (.ireturn, 1) := dk_172 (dk_at dksX0_feed_2 0 rfl rfl)
abbrev cX0_lay : ByteArray := prog_1_method_29_code
def yX0_lay : MethodName := ⟨RX0, "lay", "(I)V"⟩
def dkwX0_lay_1 : List UInt8 := [180, 0, 182, 4, 96, 181, 0, 182, 132, 2, 248, 167, 255, 226, 177]
abbrev dktX0_lay_1 : List UInt8 := dkwX0_lay_1 ++ []
def dkwX0_lay_0 : List UInt8 := [16, 24, 61, 28, 155, 0, 32, 42, 180, 0, 24, 42, 180, 0, 182, 27, 28, 122, 145, 84, 42, 89]
abbrev dktX0_lay_0 : List UInt8 := dkwX0_lay_0 ++ dktX0_lay_1
theorem dksX0_lay_0 : cX0_lay.data.toList.drop 0 = dktX0_lay_0 := by decide +kernel
theorem dksX0_lay_1 : cX0_lay.data.toList.drop 22 = dktX0_lay_1 := dk_seg dksX0_lay_0 22 rfl rfl
theorem dX0_lay_0 : decode cX0_lay 0 = .ok (.bipush 24, 2) := dk_16 24 (dk_at dksX0_lay_0 0 rfl rfl)
theorem dX0_lay_2 : decode cX0_lay 2 = .ok (.istore_n 2, 1) := dk_61 (dk_at dksX0_lay_0 2 rfl rfl)
theorem dX0_lay_3 : decode cX0_lay 3 = .ok (.iload_n 2, 1) := dk_28 (dk_at dksX0_lay_0 3 rfl rfl)
theorem dX0_lay_4 : decode cX0_lay 4 = .ok (.ifCond .lt 32, 3) := dk_155 0 32 (dk_at dksX0_lay_0 4 rfl rfl)
theorem dX0_lay_7 : decode cX0_lay 7 = .ok (.aload_n 0, 1) := dk_42 (dk_at dksX0_lay_0 7 rfl rfl)
theorem dX0_lay_8 : decode cX0_lay 8 = .ok (.getfield 24, 3) := dk_180 0 24 (dk_at dksX0_lay_0 8 rfl rfl)
theorem dX0_lay_11 : decode cX0_lay 11 = .ok (.aload_n 0, 1) := dk_42 (dk_at dksX0_lay_0 11 rfl rfl)
theorem dX0_lay_12 : decode cX0_lay 12 = .ok (.getfield 182, 3) := dk_180 0 182 (dk_at dksX0_lay_0 12 rfl rfl)
theorem dX0_lay_15 : decode cX0_lay 15 = .ok (.iload_n 1, 1) := dk_27 (dk_at dksX0_lay_0 15 rfl rfl)
theorem dX0_lay_16 : decode cX0_lay 16 = .ok (.iload_n 2, 1) := dk_28 (dk_at dksX0_lay_0 16 rfl rfl)
theorem dX0_lay_17 : decode cX0_lay 17 = .ok (.ishr, 1) := dk_122 (dk_at dksX0_lay_0 17 rfl rfl)
theorem dX0_lay_18 : decode cX0_lay 18 = .ok (.i2b, 1) := dk_145 (dk_at dksX0_lay_0 18 rfl rfl)
theorem dX0_lay_19 : decode cX0_lay 19 = .ok (.bastore, 1) := dk_84 (dk_at dksX0_lay_0 19 rfl rfl)
theorem dX0_lay_20 : decode cX0_lay 20 = .ok (.aload_n 0, 1) := dk_42 (dk_at dksX0_lay_0 20 rfl rfl)
theorem dX0_lay_21 : decode cX0_lay 21 = .ok (.dup, 1) := dk_89 (dk_at dksX0_lay_0 21 rfl rfl)
theorem dX0_lay_22 : decode cX0_lay 22 = .ok (.getfield 182, 3) := dk_180 0 182 (dk_at dksX0_lay_1 0 rfl rfl)
theorem dX0_lay_25 : decode cX0_lay 25 = .ok (.iconst 1, 1) := dk_4 (dk_at dksX0_lay_1 3 rfl rfl)
theorem dX0_lay_26 : decode cX0_lay 26 = .ok (.iadd, 1) := dk_96 (dk_at dksX0_lay_1 4 rfl rfl)
theorem dX0_lay_27 : decode cX0_lay 27 = .ok (.putfield 182, 3) := dk_181 0 182 (dk_at dksX0_lay_1 5 rfl rfl)
theorem dX0_lay_30 : decode cX0_lay 30 = .ok (.iinc 2 (-8), 3) := dk_132 2 248 (dk_at dksX0_lay_1 8 rfl rfl)
theorem dX0_lay_33 : decode cX0_lay 33 = .ok (.goto (-30), 3) := dk_167 255 226 (dk_at dksX0_lay_1 11 rfl rfl)
theorem dX0_lay_36 : decode cX0_lay 36 = .ok (.return_, 1) := dk_177 (dk_at dksX0_lay_1 14 rfl rfl)
abbrev cX0_table : ByteArray := prog_1_method_32_code
def yX0_table : MethodName := ⟨RX0, "table", "(I)I"⟩
def dkwX0_table_2 : List UInt8 := [181, 0, 210, 44, 180, 0, 167, 172, 77, 42, 44, 182, 0, 214, 172]
abbrev dktX0_table_2 : List UInt8 := dkwX0_table_2 ++ []
def dkwX0_table_1 : List UInt8 := [89, 42, 27, 183, 0, 201, 44, 182, 0, 204, 42, 182, 0, 163, 44, 182, 0, 207, 42, 180, 0, 55, 1]
abbrev dktX0_table_1 : List UInt8 := dkwX0_table_1 ++ dktX0_table_2
def dkwX0_table_0 : List UInt8 := [42, 27, 17, 3, 132, 182, 0, 195, 154, 0, 5, 2, 172, 187, 0, 72, 89, 183, 0, 74, 77, 187, 0, 199]
abbrev dktX0_table_0 : List UInt8 := dkwX0_table_0 ++ dktX0_table_1
theorem dksX0_table_0 : cX0_table.data.toList.drop 0 = dktX0_table_0 := by decide +kernel
theorem dksX0_table_1 : cX0_table.data.toList.drop 24 = dktX0_table_1 := dk_seg dksX0_table_0 24 rfl rfl
theorem dksX0_table_2 : cX0_table.data.toList.drop 47 = dktX0_table_2 := dk_seg dksX0_table_1 23 rfl rfl
theorem dX0_table_0 : decode cX0_table 0 = .ok (.aload_n 0, 1) := dk_42 (dk_at dksX0_table_0 0 rfl rfl)
theorem dX0_table_1 : decode cX0_table 1 = .ok (.iload_n 1, 1) := dk_27 (dk_at dksX0_table_0 1 rfl rfl)
theorem dX0_table_2 : decode cX0_table 2 = .ok (.sipush 900, 3) := dk_17 3 132 (dk_at dksX0_table_0 2 rfl rfl)
theorem dX0_table_5 : decode cX0_table 5 = .ok (.invokevirtual 195, 3) := dk_182 0 195 (dk_at dksX0_table_0 5 rfl rfl)
theorem dX0_table_8 : decode cX0_table 8 = .ok (.ifCond .ne 5, 3) := dk_154 0 5 (dk_at dksX0_table_0 8 rfl rfl)
theorem dX0_table_11 : decode cX0_table 11 = .ok (.iconst (-1), 1) := dk_2 (dk_at dksX0_table_0 11 rfl rfl)
theorem dX0_table_12 : decode cX0_table 12 = .ok (.ireturn, 1) := dk_172 (dk_at dksX0_table_0 12 rfl rfl)
theorem dX0_table_13 : decode cX0_table 13 = .ok (.new 72, 3) := dk_187 0 72 (dk_at dksX0_table_0 13 rfl rfl)
theorem dX0_table_16 : decode cX0_table 16 = .ok (.dup, 1) := dk_89 (dk_at dksX0_table_0 16 rfl rfl)
theorem dX0_table_17 : decode cX0_table 17 = .ok (.invokespecial 74, 3) := dk_183 0 74 (dk_at dksX0_table_0 17 rfl rfl)
theorem dX0_table_20 : decode cX0_table 20 = .ok (.astore_n 2, 1) := dk_77 (dk_at dksX0_table_0 20 rfl rfl)
theorem dX0_table_21 : decode cX0_table 21 = .ok (.new 199, 3) := dk_187 0 199 (dk_at dksX0_table_0 21 rfl rfl)
theorem dX0_table_24 : decode cX0_table 24 = .ok (.dup, 1) := dk_89 (dk_at dksX0_table_1 0 rfl rfl)
theorem dX0_table_25 : decode cX0_table 25 = .ok (.aload_n 0, 1) := dk_42 (dk_at dksX0_table_1 1 rfl rfl)
theorem dX0_table_26 : decode cX0_table 26 = .ok (.iload_n 1, 1) := dk_27 (dk_at dksX0_table_1 2 rfl rfl)
theorem dX0_table_27 : decode cX0_table 27 = .ok (.invokespecial 201, 3) := dk_183 0 201 (dk_at dksX0_table_1 3 rfl rfl)
theorem dX0_table_30 : decode cX0_table 30 = .ok (.aload_n 2, 1) := dk_44 (dk_at dksX0_table_1 6 rfl rfl)
theorem dX0_table_31 : decode cX0_table 31 = .ok (.invokevirtual 204, 3) := dk_182 0 204 (dk_at dksX0_table_1 7 rfl rfl)
theorem dX0_table_34 : decode cX0_table 34 = .ok (.aload_n 0, 1) := dk_42 (dk_at dksX0_table_1 10 rfl rfl)
theorem dX0_table_35 : decode cX0_table 35 = .ok (.invokevirtual 163, 3) := dk_182 0 163 (dk_at dksX0_table_1 11 rfl rfl)
theorem dX0_table_38 : decode cX0_table 38 = .ok (.aload_n 2, 1) := dk_44 (dk_at dksX0_table_1 14 rfl rfl)
theorem dX0_table_39 : decode cX0_table 39 = .ok (.invokevirtual 207, 3) := dk_182 0 207 (dk_at dksX0_table_1 15 rfl rfl)
theorem dX0_table_42 : decode cX0_table 42 = .ok (.aload_n 0, 1) := dk_42 (dk_at dksX0_table_1 18 rfl rfl)
theorem dX0_table_43 : decode cX0_table 43 = .ok (.getfield 55, 3) := dk_180 0 55 (dk_at dksX0_table_1 19 rfl rfl)
theorem dX0_table_46 : decode cX0_table 46 = .ok (.aconst_null, 1) := dk_1 (dk_at dksX0_table_1 22 rfl rfl)
theorem dX0_table_47 : decode cX0_table 47 = .ok (.putfield 210, 3) := dk_181 0 210 (dk_at dksX0_table_2 0 rfl rfl)
theorem dX0_table_50 : decode cX0_table 50 = .ok (.aload_n 2, 1) := dk_44 (dk_at dksX0_table_2 3 rfl rfl)
theorem dX0_table_51 : decode cX0_table 51 = .ok (.getfield 167, 3) := dk_180 0 167 (dk_at dksX0_table_2 4 rfl rfl)
theorem dX0_table_54 : decode cX0_table 54 = .ok (.ireturn, 1) := dk_172 (dk_at dksX0_table_2 7 rfl rfl)
theorem dX0_table_55 : decode cX0_table 55 = .ok (.astore_n 2, 1) := dk_77 (dk_at dksX0_table_2 8 rfl rfl)
theorem dX0_table_56 : decode cX0_table 56 = .ok (.aload_n 0, 1) := dk_42 (dk_at dksX0_table_2 9 rfl rfl)
theorem dX0_table_57 : decode cX0_table 57 = .ok (.aload_n 2, 1) := dk_44 (dk_at dksX0_table_2 10 rfl rfl)
theorem dX0_table_58 : decode cX0_table 58 = .ok (.invokevirtual 214, 3) := dk_182 0 214 (dk_at dksX0_table_2 11 rfl rfl)
theorem dX0_table_61 : decode cX0_table 61 = .ok (.ireturn, 1) := dk_172 (dk_at dksX0_table_2 14 rfl rfl)
abbrev cX0_opens : ByteArray := prog_1_method_30_code
def yX0_opens : MethodName := ⟨RX0, "opens", "(II)Z"⟩
def dkwX0_opens_2 : List UInt8 := [181, 0, 31, 4, 172]
abbrev dktX0_opens_2 : List UInt8 := dkwX0_opens_2 ++ []
def dkwX0_opens_1 : List UInt8 := [181, 0, 82, 42, 180, 0, 82, 158, 0, 5, 3, 172, 42, 3, 181, 0, 182, 42, 3, 181, 0, 27, 42, 2]
abbrev dktX0_opens_1 : List UInt8 := dkwX0_opens_1 ++ dktX0_opens_2
def dkwX0_opens_0 : List UInt8 := [42, 27, 155, 0, 16, 27, 42, 180, 0, 182, 163, 0, 8, 27, 28, 164, 0, 7, 4, 167, 0, 4, 3]
abbrev dktX0_opens_0 : List UInt8 := dkwX0_opens_0 ++ dktX0_opens_1
theorem dksX0_opens_0 : cX0_opens.data.toList.drop 0 = dktX0_opens_0 := by decide +kernel
theorem dksX0_opens_1 : cX0_opens.data.toList.drop 23 = dktX0_opens_1 := dk_seg dksX0_opens_0 23 rfl rfl
theorem dksX0_opens_2 : cX0_opens.data.toList.drop 47 = dktX0_opens_2 := dk_seg dksX0_opens_1 24 rfl rfl
theorem dX0_opens_0 : decode cX0_opens 0 = .ok (.aload_n 0, 1) := dk_42 (dk_at dksX0_opens_0 0 rfl rfl)
theorem dX0_opens_1 : decode cX0_opens 1 = .ok (.iload_n 1, 1) := dk_27 (dk_at dksX0_opens_0 1 rfl rfl)
theorem dX0_opens_2 : decode cX0_opens 2 = .ok (.ifCond .lt 16, 3) := dk_155 0 16 (dk_at dksX0_opens_0 2 rfl rfl)
theorem dX0_opens_5 : decode cX0_opens 5 = .ok (.iload_n 1, 1) := dk_27 (dk_at dksX0_opens_0 5 rfl rfl)
theorem dX0_opens_6 : decode cX0_opens 6 = .ok (.aload_n 0, 1) := dk_42 (dk_at dksX0_opens_0 6 rfl rfl)
theorem dX0_opens_7 : decode cX0_opens 7 = .ok (.getfield 182, 3) := dk_180 0 182 (dk_at dksX0_opens_0 7 rfl rfl)
theorem dX0_opens_10 : decode cX0_opens 10 = .ok (.if_icmp .gt 8, 3) := dk_163 0 8 (dk_at dksX0_opens_0 10 rfl rfl)
theorem dX0_opens_13 : decode cX0_opens 13 = .ok (.iload_n 1, 1) := dk_27 (dk_at dksX0_opens_0 13 rfl rfl)
theorem dX0_opens_14 : decode cX0_opens 14 = .ok (.iload_n 2, 1) := dk_28 (dk_at dksX0_opens_0 14 rfl rfl)
theorem dX0_opens_15 : decode cX0_opens 15 = .ok (.if_icmp .le 7, 3) := dk_164 0 7 (dk_at dksX0_opens_0 15 rfl rfl)
theorem dX0_opens_18 : decode cX0_opens 18 = .ok (.iconst 1, 1) := dk_4 (dk_at dksX0_opens_0 18 rfl rfl)
theorem dX0_opens_19 : decode cX0_opens 19 = .ok (.goto 4, 3) := dk_167 0 4 (dk_at dksX0_opens_0 19 rfl rfl)
theorem dX0_opens_22 : decode cX0_opens 22 = .ok (.iconst 0, 1) := dk_3 (dk_at dksX0_opens_0 22 rfl rfl)
theorem dX0_opens_23 : decode cX0_opens 23 = .ok (.putfield 82, 3) := dk_181 0 82 (dk_at dksX0_opens_1 0 rfl rfl)
theorem dX0_opens_26 : decode cX0_opens 26 = .ok (.aload_n 0, 1) := dk_42 (dk_at dksX0_opens_1 3 rfl rfl)
theorem dX0_opens_27 : decode cX0_opens 27 = .ok (.getfield 82, 3) := dk_180 0 82 (dk_at dksX0_opens_1 4 rfl rfl)
theorem dX0_opens_30 : decode cX0_opens 30 = .ok (.ifCond .le 5, 3) := dk_158 0 5 (dk_at dksX0_opens_1 7 rfl rfl)
theorem dX0_opens_33 : decode cX0_opens 33 = .ok (.iconst 0, 1) := dk_3 (dk_at dksX0_opens_1 10 rfl rfl)
theorem dX0_opens_34 : decode cX0_opens 34 = .ok (.ireturn, 1) := dk_172 (dk_at dksX0_opens_1 11 rfl rfl)
theorem dX0_opens_35 : decode cX0_opens 35 = .ok (.aload_n 0, 1) := dk_42 (dk_at dksX0_opens_1 12 rfl rfl)
theorem dX0_opens_36 : decode cX0_opens 36 = .ok (.iconst 0, 1) := dk_3 (dk_at dksX0_opens_1 13 rfl rfl)
theorem dX0_opens_37 : decode cX0_opens 37 = .ok (.putfield 182, 3) := dk_181 0 182 (dk_at dksX0_opens_1 14 rfl rfl)
theorem dX0_opens_40 : decode cX0_opens 40 = .ok (.aload_n 0, 1) := dk_42 (dk_at dksX0_opens_1 17 rfl rfl)
theorem dX0_opens_41 : decode cX0_opens 41 = .ok (.iconst 0, 1) := dk_3 (dk_at dksX0_opens_1 18 rfl rfl)
theorem dX0_opens_42 : decode cX0_opens 42 = .ok (.putfield 27, 3) := dk_181 0 27 (dk_at dksX0_opens_1 19 rfl rfl)
theorem dX0_opens_45 : decode cX0_opens 45 = .ok (.aload_n 0, 1) := dk_42 (dk_at dksX0_opens_1 22 rfl rfl)
theorem dX0_opens_46 : decode cX0_opens 46 = .ok (.iconst (-1), 1) := dk_2 (dk_at dksX0_opens_1 23 rfl rfl)
theorem dX0_opens_47 : decode cX0_opens 47 = .ok (.putfield 31, 3) := dk_181 0 31 (dk_at dksX0_opens_2 0 rfl rfl)
theorem dX0_opens_50 : decode cX0_opens 50 = .ok (.iconst 1, 1) := dk_4 (dk_at dksX0_opens_2 3 rfl rfl)
theorem dX0_opens_51 : decode cX0_opens 51 = .ok (.ireturn, 1) := dk_172 (dk_at dksX0_opens_2 4 rfl rfl)
abbrev cX0_at : ByteArray := prog_1_method_20_code
def yX0_at : MethodName := ⟨RX0, "at", "()LLetMe$Table;"⟩
def dkwX0_at_0 : List UInt8 := [42, 180, 0, 55, 180, 0, 156, 176]
abbrev dktX0_at_0 : List UInt8 := dkwX0_at_0 ++ []
theorem dksX0_at_0 : cX0_at.data.toList.drop 0 = dktX0_at_0 := by decide +kernel
theorem dX0_at_0 : decode cX0_at 0 = .ok (.aload_n 0, 1) := dk_42 (dk_at dksX0_at_0 0 rfl rfl)
theorem dX0_at_1 : decode cX0_at 1 = .ok (.getfield 55, 3) := dk_180 0 55 (dk_at dksX0_at_0 1 rfl rfl)
theorem dX0_at_4 : decode cX0_at 4 = .ok (.getfield 156, 3) := dk_180 0 156 (dk_at dksX0_at_0 4 rfl rfl)
theorem dX0_at_7 : decode cX0_at 7 = .ok (.areturn, 1) := dk_176 (dk_at dksX0_at_0 7 rfl rfl)
abbrev cX0_faulty : ByteArray := prog_1_method_31_code
def yX0_faulty : MethodName := ⟨RX0, "faulty", "(LLetMe$Bad;)I"⟩
def dkwX0_faulty_0 : List UInt8 := [42, 43, 180, 0, 189, 181, 0, 27, 42, 43, 180, 0, 192, 181, 0, 31, 42, 16, 9, 181, 0, 82, 2, 172]
abbrev dktX0_faulty_0 : List UInt8 := dkwX0_faulty_0 ++ []
theorem dksX0_faulty_0 : cX0_faulty.data.toList.drop 0 = dktX0_faulty_0 := by decide +kernel
theorem dX0_faulty_0 : decode cX0_faulty 0 = .ok (.aload_n 0, 1) := dk_42 (dk_at dksX0_faulty_0 0 rfl rfl)
theorem dX0_faulty_1 : decode cX0_faulty 1 = .ok (.aload_n 1, 1) := dk_43 (dk_at dksX0_faulty_0 1 rfl rfl)
theorem dX0_faulty_2 : decode cX0_faulty 2 = .ok (.getfield 189, 3) := dk_180 0 189 (dk_at dksX0_faulty_0 2 rfl rfl)
theorem dX0_faulty_5 : decode cX0_faulty 5 = .ok (.putfield 27, 3) := dk_181 0 27 (dk_at dksX0_faulty_0 5 rfl rfl)
theorem dX0_faulty_8 : decode cX0_faulty 8 = .ok (.aload_n 0, 1) := dk_42 (dk_at dksX0_faulty_0 8 rfl rfl)
theorem dX0_faulty_9 : decode cX0_faulty 9 = .ok (.aload_n 1, 1) := dk_43 (dk_at dksX0_faulty_0 9 rfl rfl)
theorem dX0_faulty_10 : decode cX0_faulty 10 = .ok (.getfield 192, 3) := dk_180 0 192 (dk_at dksX0_faulty_0 10 rfl rfl)
theorem dX0_faulty_13 : decode cX0_faulty 13 = .ok (.putfield 31, 3) := dk_181 0 31 (dk_at dksX0_faulty_0 13 rfl rfl)
theorem dX0_faulty_16 : decode cX0_faulty 16 = .ok (.aload_n 0, 1) := dk_42 (dk_at dksX0_faulty_0 16 rfl rfl)
theorem dX0_faulty_17 : decode cX0_faulty 17 = .ok (.bipush 9, 2) := dk_16 9 (dk_at dksX0_faulty_0 17 rfl rfl)
theorem dX0_faulty_19 : decode cX0_faulty 19 = .ok (.putfield 82, 3) := dk_181 0 82 (dk_at dksX0_faulty_0 19 rfl rfl)
theorem dX0_faulty_22 : decode cX0_faulty 22 = .ok (.iconst (-1), 1) := dk_2 (dk_at dksX0_faulty_0 22 rfl rfl)
theorem dX0_faulty_23 : decode cX0_faulty 23 = .ok (.ireturn, 1) := dk_172 (dk_at dksX0_faulty_0 23 rfl rfl)
abbrev cX0_year : ByteArray := prog_1_method_33_code
def yX0_year : MethodName := ⟨RX0, "year", "(I)I"⟩
def dkwX0_year_2 : List UInt8 := [181, 0, 210, 45, 180, 0, 225, 172, 77, 42, 44, 182, 0, 214, 172]
abbrev dktX0_year_2 : List UInt8 := dkwX0_year_2 ++ []
def dkwX0_year_1 : List UInt8 := [187, 0, 199, 89, 42, 27, 183, 0, 201, 78, 45, 42, 182, 0, 163, 44, 182, 0, 222, 42, 180, 0, 55, 44]
abbrev dktX0_year_1 : List UInt8 := dkwX0_year_1 ++ dktX0_year_2
def dkwX0_year_0 : List UInt8 := [42, 27, 17, 1, 44, 182, 0, 195, 154, 0, 5, 2, 172, 187, 0, 218, 89, 4, 183, 0, 220, 77]
abbrev dktX0_year_0 : List UInt8 := dkwX0_year_0 ++ dktX0_year_1
theorem dksX0_year_0 : cX0_year.data.toList.drop 0 = dktX0_year_0 := by decide +kernel
theorem dksX0_year_1 : cX0_year.data.toList.drop 22 = dktX0_year_1 := dk_seg dksX0_year_0 22 rfl rfl
theorem dksX0_year_2 : cX0_year.data.toList.drop 46 = dktX0_year_2 := dk_seg dksX0_year_1 24 rfl rfl
theorem dX0_year_0 : decode cX0_year 0 = .ok (.aload_n 0, 1) := dk_42 (dk_at dksX0_year_0 0 rfl rfl)
theorem dX0_year_1 : decode cX0_year 1 = .ok (.iload_n 1, 1) := dk_27 (dk_at dksX0_year_0 1 rfl rfl)
theorem dX0_year_2 : decode cX0_year 2 = .ok (.sipush 300, 3) := dk_17 1 44 (dk_at dksX0_year_0 2 rfl rfl)
theorem dX0_year_5 : decode cX0_year 5 = .ok (.invokevirtual 195, 3) := dk_182 0 195 (dk_at dksX0_year_0 5 rfl rfl)
theorem dX0_year_8 : decode cX0_year 8 = .ok (.ifCond .ne 5, 3) := dk_154 0 5 (dk_at dksX0_year_0 8 rfl rfl)
theorem dX0_year_11 : decode cX0_year 11 = .ok (.iconst (-1), 1) := dk_2 (dk_at dksX0_year_0 11 rfl rfl)
theorem dX0_year_12 : decode cX0_year 12 = .ok (.ireturn, 1) := dk_172 (dk_at dksX0_year_0 12 rfl rfl)
theorem dX0_year_13 : decode cX0_year 13 = .ok (.new 218, 3) := dk_187 0 218 (dk_at dksX0_year_0 13 rfl rfl)
theorem dX0_year_16 : decode cX0_year 16 = .ok (.dup, 1) := dk_89 (dk_at dksX0_year_0 16 rfl rfl)
theorem dX0_year_17 : decode cX0_year 17 = .ok (.iconst 1, 1) := dk_4 (dk_at dksX0_year_0 17 rfl rfl)
theorem dX0_year_18 : decode cX0_year 18 = .ok (.invokespecial 220, 3) := dk_183 0 220 (dk_at dksX0_year_0 18 rfl rfl)
theorem dX0_year_21 : decode cX0_year 21 = .ok (.astore_n 2, 1) := dk_77 (dk_at dksX0_year_0 21 rfl rfl)
theorem dX0_year_22 : decode cX0_year 22 = .ok (.new 199, 3) := dk_187 0 199 (dk_at dksX0_year_1 0 rfl rfl)
theorem dX0_year_25 : decode cX0_year 25 = .ok (.dup, 1) := dk_89 (dk_at dksX0_year_1 3 rfl rfl)
theorem dX0_year_26 : decode cX0_year 26 = .ok (.aload_n 0, 1) := dk_42 (dk_at dksX0_year_1 4 rfl rfl)
theorem dX0_year_27 : decode cX0_year 27 = .ok (.iload_n 1, 1) := dk_27 (dk_at dksX0_year_1 5 rfl rfl)
theorem dX0_year_28 : decode cX0_year 28 = .ok (.invokespecial 201, 3) := dk_183 0 201 (dk_at dksX0_year_1 6 rfl rfl)
theorem dX0_year_31 : decode cX0_year 31 = .ok (.astore_n 3, 1) := dk_78 (dk_at dksX0_year_1 9 rfl rfl)
theorem dX0_year_32 : decode cX0_year 32 = .ok (.aload_n 3, 1) := dk_45 (dk_at dksX0_year_1 10 rfl rfl)
theorem dX0_year_33 : decode cX0_year 33 = .ok (.aload_n 0, 1) := dk_42 (dk_at dksX0_year_1 11 rfl rfl)
theorem dX0_year_34 : decode cX0_year 34 = .ok (.invokevirtual 163, 3) := dk_182 0 163 (dk_at dksX0_year_1 12 rfl rfl)
theorem dX0_year_37 : decode cX0_year 37 = .ok (.aload_n 2, 1) := dk_44 (dk_at dksX0_year_1 15 rfl rfl)
theorem dX0_year_38 : decode cX0_year 38 = .ok (.invokevirtual 222, 3) := dk_182 0 222 (dk_at dksX0_year_1 16 rfl rfl)
theorem dX0_year_41 : decode cX0_year 41 = .ok (.aload_n 0, 1) := dk_42 (dk_at dksX0_year_1 19 rfl rfl)
theorem dX0_year_42 : decode cX0_year 42 = .ok (.getfield 55, 3) := dk_180 0 55 (dk_at dksX0_year_1 20 rfl rfl)
theorem dX0_year_45 : decode cX0_year 45 = .ok (.aload_n 2, 1) := dk_44 (dk_at dksX0_year_1 23 rfl rfl)
theorem dX0_year_46 : decode cX0_year 46 = .ok (.putfield 210, 3) := dk_181 0 210 (dk_at dksX0_year_2 0 rfl rfl)
theorem dX0_year_49 : decode cX0_year 49 = .ok (.aload_n 3, 1) := dk_45 (dk_at dksX0_year_2 3 rfl rfl)
theorem dX0_year_50 : decode cX0_year 50 = .ok (.getfield 225, 3) := dk_180 0 225 (dk_at dksX0_year_2 4 rfl rfl)
theorem dX0_year_53 : decode cX0_year 53 = .ok (.ireturn, 1) := dk_172 (dk_at dksX0_year_2 7 rfl rfl)
theorem dX0_year_54 : decode cX0_year 54 = .ok (.astore_n 2, 1) := dk_77 (dk_at dksX0_year_2 8 rfl rfl)
theorem dX0_year_55 : decode cX0_year 55 = .ok (.aload_n 0, 1) := dk_42 (dk_at dksX0_year_2 9 rfl rfl)
theorem dX0_year_56 : decode cX0_year 56 = .ok (.aload_n 2, 1) := dk_44 (dk_at dksX0_year_2 10 rfl rfl)
theorem dX0_year_57 : decode cX0_year 57 = .ok (.invokevirtual 214, 3) := dk_182 0 214 (dk_at dksX0_year_2 11 rfl rfl)
theorem dX0_year_60 : decode cX0_year 60 = .ok (.ireturn, 1) := dk_172 (dk_at dksX0_year_2 14 rfl rfl)
abbrev cX0_fault : ByteArray := prog_1_method_34_code
def yX0_fault : MethodName := ⟨RX0, "fault", "(I)I"⟩
def dkwX0_fault_1 : List UInt8 := [172]
abbrev dktX0_fault_1 : List UInt8 := dkwX0_fault_1 ++ []
def dkwX0_fault_0 : List UInt8 := [27, 154, 0, 10, 42, 180, 0, 27, 167, 0, 16, 27, 4, 160, 0, 10, 42, 180, 0, 31, 167, 0, 4, 2]
abbrev dktX0_fault_0 : List UInt8 := dkwX0_fault_0 ++ dktX0_fault_1
theorem dksX0_fault_0 : cX0_fault.data.toList.drop 0 = dktX0_fault_0 := by decide +kernel
theorem dksX0_fault_1 : cX0_fault.data.toList.drop 24 = dktX0_fault_1 := dk_seg dksX0_fault_0 24 rfl rfl
theorem dX0_fault_0 : decode cX0_fault 0 = .ok (.iload_n 1, 1) := dk_27 (dk_at dksX0_fault_0 0 rfl rfl)
theorem dX0_fault_1 : decode cX0_fault 1 = .ok (.ifCond .ne 10, 3) := dk_154 0 10 (dk_at dksX0_fault_0 1 rfl rfl)
theorem dX0_fault_4 : decode cX0_fault 4 = .ok (.aload_n 0, 1) := dk_42 (dk_at dksX0_fault_0 4 rfl rfl)
theorem dX0_fault_5 : decode cX0_fault 5 = .ok (.getfield 27, 3) := dk_180 0 27 (dk_at dksX0_fault_0 5 rfl rfl)
theorem dX0_fault_8 : decode cX0_fault 8 = .ok (.goto 16, 3) := dk_167 0 16 (dk_at dksX0_fault_0 8 rfl rfl)
theorem dX0_fault_11 : decode cX0_fault 11 = .ok (.iload_n 1, 1) := dk_27 (dk_at dksX0_fault_0 11 rfl rfl)
theorem dX0_fault_12 : decode cX0_fault 12 = .ok (.iconst 1, 1) := dk_4 (dk_at dksX0_fault_0 12 rfl rfl)
theorem dX0_fault_13 : decode cX0_fault 13 = .ok (.if_icmp .ne 10, 3) := dk_160 0 10 (dk_at dksX0_fault_0 13 rfl rfl)
theorem dX0_fault_16 : decode cX0_fault 16 = .ok (.aload_n 0, 1) := dk_42 (dk_at dksX0_fault_0 16 rfl rfl)
theorem dX0_fault_17 : decode cX0_fault 17 = .ok (.getfield 31, 3) := dk_180 0 31 (dk_at dksX0_fault_0 17 rfl rfl)
theorem dX0_fault_20 : decode cX0_fault 20 = .ok (.goto 4, 3) := dk_167 0 4 (dk_at dksX0_fault_0 20 rfl rfl)
theorem dX0_fault_23 : decode cX0_fault 23 = .ok (.iconst (-1), 1) := dk_2 (dk_at dksX0_fault_0 23 rfl rfl)
theorem dX0_fault_24 : decode cX0_fault 24 = .ok (.ireturn, 1) := dk_172 (dk_at dksX0_fault_1 0 rfl rfl)
abbrev cX0_told : ByteArray := prog_1_method_36_code
def yX0_told : MethodName := ⟨RX0, "told", "(I)I"⟩
def dkwX0_told_6 : List UInt8 := [2, 172]
abbrev dktX0_told_6 : List UInt8 := dkwX0_told_6 ++ []
def dkwX0_told_5 : List UInt8 := [42, 182, 0, 163, 180, 1, 8, 172, 42, 182, 0, 163, 182, 1, 11, 172, 42, 182, 0, 163, 180, 1, 14, 172]
abbrev dktX0_told_5 : List UInt8 := dkwX0_told_5 ++ dktX0_told_6
def dkwX0_told_4 : List UInt8 := [42, 182, 0, 163, 182, 0, 249, 184, 0, 252, 172, 42, 182, 1, 2, 172, 42, 182, 0, 163, 180, 1, 5, 172]
abbrev dktX0_told_4 : List UInt8 := dkwX0_told_4 ++ dktX0_told_5
def dkwX0_told_3 : List UInt8 := [42, 182, 0, 163, 180, 0, 239, 172, 42, 182, 0, 163, 180, 0, 242, 172, 42, 182, 0, 163, 182, 0, 245, 172]
abbrev dktX0_told_3 : List UInt8 := dkwX0_told_3 ++ dktX0_told_4
def dkwX0_told_2 : List UInt8 := [42, 182, 0, 163, 180, 0, 167, 172, 42, 182, 0, 163, 180, 0, 233, 172, 42, 182, 0, 163, 180, 0, 236, 172]
abbrev dktX0_told_2 : List UInt8 := dkwX0_told_2 ++ dktX0_told_3
def dkwX0_told_1 : List UInt8 := [170, 0, 0, 0, 0, 158, 0, 0, 0, 0, 0, 0, 0, 11, 0, 0, 0, 62, 0, 0, 0, 70, 0, 0, 0, 78, 0, 0, 0, 86, 0, 0, 0, 94, 0, 0, 0, 102, 0, 0, 0, 110, 0, 0, 0, 121, 0, 0, 0, 126, 0, 0, 0, 134, 0, 0, 0, 142, 0, 0, 0, 150]
abbrev dktX0_told_1 : List UInt8 := dkwX0_told_1 ++ dktX0_told_2
def dkwX0_told_0 : List UInt8 := [42, 27, 133, 9, 20, 0, 231, 184, 0, 170, 153, 0, 7, 3, 167, 0, 4, 4, 181, 0, 82, 27]
abbrev dktX0_told_0 : List UInt8 := dkwX0_told_0 ++ dktX0_told_1
theorem dksX0_told_0 : cX0_told.data.toList.drop 0 = dktX0_told_0 := by decide +kernel
theorem dksX0_told_1 : cX0_told.data.toList.drop 22 = dktX0_told_1 := dk_seg dksX0_told_0 22 rfl rfl
theorem dksX0_told_2 : cX0_told.data.toList.drop 84 = dktX0_told_2 := dk_seg dksX0_told_1 62 rfl rfl
theorem dksX0_told_3 : cX0_told.data.toList.drop 108 = dktX0_told_3 := dk_seg dksX0_told_2 24 rfl rfl
theorem dksX0_told_4 : cX0_told.data.toList.drop 132 = dktX0_told_4 := dk_seg dksX0_told_3 24 rfl rfl
theorem dksX0_told_5 : cX0_told.data.toList.drop 156 = dktX0_told_5 := dk_seg dksX0_told_4 24 rfl rfl
theorem dksX0_told_6 : cX0_told.data.toList.drop 180 = dktX0_told_6 := dk_seg dksX0_told_5 24 rfl rfl
theorem dX0_told_0 : decode cX0_told 0 = .ok (.aload_n 0, 1) := dk_42 (dk_at dksX0_told_0 0 rfl rfl)
theorem dX0_told_1 : decode cX0_told 1 = .ok (.iload_n 1, 1) := dk_27 (dk_at dksX0_told_0 1 rfl rfl)
theorem dX0_told_2 : decode cX0_told 2 = .ok (.i2l, 1) := dk_133 (dk_at dksX0_told_0 2 rfl rfl)
theorem dX0_told_3 : decode cX0_told 3 = .ok (.lconst 0, 1) := dk_9 (dk_at dksX0_told_0 3 rfl rfl)
theorem dX0_told_4 : decode cX0_told 4 = .ok (.ldc2_w 231, 3) := dk_20 0 231 (dk_at dksX0_told_0 4 rfl rfl)
theorem dX0_told_7 : decode cX0_told 7 = .ok (.invokestatic 170, 3) := dk_184 0 170 (dk_at dksX0_told_0 7 rfl rfl)
theorem dX0_told_10 : decode cX0_told 10 = .ok (.ifCond .eq 7, 3) := dk_153 0 7 (dk_at dksX0_told_0 10 rfl rfl)
theorem dX0_told_13 : decode cX0_told 13 = .ok (.iconst 0, 1) := dk_3 (dk_at dksX0_told_0 13 rfl rfl)
theorem dX0_told_14 : decode cX0_told 14 = .ok (.goto 4, 3) := dk_167 0 4 (dk_at dksX0_told_0 14 rfl rfl)
theorem dX0_told_17 : decode cX0_told 17 = .ok (.iconst 1, 1) := dk_4 (dk_at dksX0_told_0 17 rfl rfl)
theorem dX0_told_18 : decode cX0_told 18 = .ok (.putfield 82, 3) := dk_181 0 82 (dk_at dksX0_told_0 18 rfl rfl)
theorem dX0_told_21 : decode cX0_told 21 = .ok (.iload_n 1, 1) := dk_27 (dk_at dksX0_told_0 21 rfl rfl)
theorem dX0_told_22 : decode cX0_told 22 = .ok (.tableswitch 158 0 11 #[62, 70, 78, 86, 94, 102, 110, 121, 126, 134, 142, 150], 62) := by decide +kernel
theorem dX0_told_84 : decode cX0_told 84 = .ok (.aload_n 0, 1) := dk_42 (dk_at dksX0_told_2 0 rfl rfl)
theorem dX0_told_85 : decode cX0_told 85 = .ok (.invokevirtual 163, 3) := dk_182 0 163 (dk_at dksX0_told_2 1 rfl rfl)
theorem dX0_told_88 : decode cX0_told 88 = .ok (.getfield 167, 3) := dk_180 0 167 (dk_at dksX0_told_2 4 rfl rfl)
theorem dX0_told_91 : decode cX0_told 91 = .ok (.ireturn, 1) := dk_172 (dk_at dksX0_told_2 7 rfl rfl)
theorem dX0_told_92 : decode cX0_told 92 = .ok (.aload_n 0, 1) := dk_42 (dk_at dksX0_told_2 8 rfl rfl)
theorem dX0_told_93 : decode cX0_told 93 = .ok (.invokevirtual 163, 3) := dk_182 0 163 (dk_at dksX0_told_2 9 rfl rfl)
theorem dX0_told_96 : decode cX0_told 96 = .ok (.getfield 233, 3) := dk_180 0 233 (dk_at dksX0_told_2 12 rfl rfl)
theorem dX0_told_99 : decode cX0_told 99 = .ok (.ireturn, 1) := dk_172 (dk_at dksX0_told_2 15 rfl rfl)
theorem dX0_told_100 : decode cX0_told 100 = .ok (.aload_n 0, 1) := dk_42 (dk_at dksX0_told_2 16 rfl rfl)
theorem dX0_told_101 : decode cX0_told 101 = .ok (.invokevirtual 163, 3) := dk_182 0 163 (dk_at dksX0_told_2 17 rfl rfl)
theorem dX0_told_104 : decode cX0_told 104 = .ok (.getfield 236, 3) := dk_180 0 236 (dk_at dksX0_told_2 20 rfl rfl)
theorem dX0_told_107 : decode cX0_told 107 = .ok (.ireturn, 1) := dk_172 (dk_at dksX0_told_2 23 rfl rfl)
theorem dX0_told_108 : decode cX0_told 108 = .ok (.aload_n 0, 1) := dk_42 (dk_at dksX0_told_3 0 rfl rfl)
theorem dX0_told_109 : decode cX0_told 109 = .ok (.invokevirtual 163, 3) := dk_182 0 163 (dk_at dksX0_told_3 1 rfl rfl)
theorem dX0_told_112 : decode cX0_told 112 = .ok (.getfield 239, 3) := dk_180 0 239 (dk_at dksX0_told_3 4 rfl rfl)
theorem dX0_told_115 : decode cX0_told 115 = .ok (.ireturn, 1) := dk_172 (dk_at dksX0_told_3 7 rfl rfl)
theorem dX0_told_116 : decode cX0_told 116 = .ok (.aload_n 0, 1) := dk_42 (dk_at dksX0_told_3 8 rfl rfl)
theorem dX0_told_117 : decode cX0_told 117 = .ok (.invokevirtual 163, 3) := dk_182 0 163 (dk_at dksX0_told_3 9 rfl rfl)
theorem dX0_told_120 : decode cX0_told 120 = .ok (.getfield 242, 3) := dk_180 0 242 (dk_at dksX0_told_3 12 rfl rfl)
theorem dX0_told_123 : decode cX0_told 123 = .ok (.ireturn, 1) := dk_172 (dk_at dksX0_told_3 15 rfl rfl)
theorem dX0_told_124 : decode cX0_told 124 = .ok (.aload_n 0, 1) := dk_42 (dk_at dksX0_told_3 16 rfl rfl)
theorem dX0_told_125 : decode cX0_told 125 = .ok (.invokevirtual 163, 3) := dk_182 0 163 (dk_at dksX0_told_3 17 rfl rfl)
theorem dX0_told_128 : decode cX0_told 128 = .ok (.invokevirtual 245, 3) := dk_182 0 245 (dk_at dksX0_told_3 20 rfl rfl)
theorem dX0_told_131 : decode cX0_told 131 = .ok (.ireturn, 1) := dk_172 (dk_at dksX0_told_3 23 rfl rfl)
theorem dX0_told_132 : decode cX0_told 132 = .ok (.aload_n 0, 1) := dk_42 (dk_at dksX0_told_4 0 rfl rfl)
theorem dX0_told_133 : decode cX0_told 133 = .ok (.invokevirtual 163, 3) := dk_182 0 163 (dk_at dksX0_told_4 1 rfl rfl)
theorem dX0_told_136 : decode cX0_told 136 = .ok (.invokevirtual 249, 3) := dk_182 0 249 (dk_at dksX0_told_4 4 rfl rfl)
theorem dX0_told_139 : decode cX0_told 139 = .ok (.invokestatic 252, 3) := dk_184 0 252 (dk_at dksX0_told_4 7 rfl rfl)
theorem dX0_told_142 : decode cX0_told 142 = .ok (.ireturn, 1) := dk_172 (dk_at dksX0_told_4 10 rfl rfl)
theorem dX0_told_143 : decode cX0_told 143 = .ok (.aload_n 0, 1) := dk_42 (dk_at dksX0_told_4 11 rfl rfl)
theorem dX0_told_144 : decode cX0_told 144 = .ok (.invokevirtual 258, 3) := dk_182 1 2 (dk_at dksX0_told_4 12 rfl rfl)
theorem dX0_told_147 : decode cX0_told 147 = .ok (.ireturn, 1) := dk_172 (dk_at dksX0_told_4 15 rfl rfl)
theorem dX0_told_148 : decode cX0_told 148 = .ok (.aload_n 0, 1) := dk_42 (dk_at dksX0_told_4 16 rfl rfl)
theorem dX0_told_149 : decode cX0_told 149 = .ok (.invokevirtual 163, 3) := dk_182 0 163 (dk_at dksX0_told_4 17 rfl rfl)
theorem dX0_told_152 : decode cX0_told 152 = .ok (.getfield 261, 3) := dk_180 1 5 (dk_at dksX0_told_4 20 rfl rfl)
theorem dX0_told_155 : decode cX0_told 155 = .ok (.ireturn, 1) := dk_172 (dk_at dksX0_told_4 23 rfl rfl)
theorem dX0_told_156 : decode cX0_told 156 = .ok (.aload_n 0, 1) := dk_42 (dk_at dksX0_told_5 0 rfl rfl)
theorem dX0_told_157 : decode cX0_told 157 = .ok (.invokevirtual 163, 3) := dk_182 0 163 (dk_at dksX0_told_5 1 rfl rfl)
theorem dX0_told_160 : decode cX0_told 160 = .ok (.getfield 264, 3) := dk_180 1 8 (dk_at dksX0_told_5 4 rfl rfl)
theorem dX0_told_163 : decode cX0_told 163 = .ok (.ireturn, 1) := dk_172 (dk_at dksX0_told_5 7 rfl rfl)
theorem dX0_told_164 : decode cX0_told 164 = .ok (.aload_n 0, 1) := dk_42 (dk_at dksX0_told_5 8 rfl rfl)
theorem dX0_told_165 : decode cX0_told 165 = .ok (.invokevirtual 163, 3) := dk_182 0 163 (dk_at dksX0_told_5 9 rfl rfl)
theorem dX0_told_168 : decode cX0_told 168 = .ok (.invokevirtual 267, 3) := dk_182 1 11 (dk_at dksX0_told_5 12 rfl rfl)
theorem dX0_told_171 : decode cX0_told 171 = .ok (.ireturn, 1) := dk_172 (dk_at dksX0_told_5 15 rfl rfl)
theorem dX0_told_172 : decode cX0_told 172 = .ok (.aload_n 0, 1) := dk_42 (dk_at dksX0_told_5 16 rfl rfl)
theorem dX0_told_173 : decode cX0_told 173 = .ok (.invokevirtual 163, 3) := dk_182 0 163 (dk_at dksX0_told_5 17 rfl rfl)
theorem dX0_told_176 : decode cX0_told 176 = .ok (.getfield 270, 3) := dk_180 1 14 (dk_at dksX0_told_5 20 rfl rfl)
theorem dX0_told_179 : decode cX0_told 179 = .ok (.ireturn, 1) := dk_172 (dk_at dksX0_told_5 23 rfl rfl)
theorem dX0_told_180 : decode cX0_told 180 = .ok (.iconst (-1), 1) := dk_2 (dk_at dksX0_told_6 0 rfl rfl)
theorem dX0_told_181 : decode cX0_told 181 = .ok (.ireturn, 1) := dk_172 (dk_at dksX0_told_6 1 rfl rfl)
abbrev cX0_isIn : ByteArray := prog_1_method_19_code
def yX0_isIn : MethodName := ⟨RX0, "isIn", "(JJJ)Z"⟩
def dkwX0_isIn_0 : List UInt8 := [30, 32, 148, 155, 0, 14, 30, 22, 4, 148, 157, 0, 7, 4, 167, 0, 4, 3, 172]
abbrev dktX0_isIn_0 : List UInt8 := dkwX0_isIn_0 ++ []
theorem dksX0_isIn_0 : cX0_isIn.data.toList.drop 0 = dktX0_isIn_0 := by decide +kernel
theorem dX0_isIn_0 : decode cX0_isIn 0 = .ok (.lload_n 0, 1) := dk_30 (dk_at dksX0_isIn_0 0 rfl rfl)
theorem dX0_isIn_1 : decode cX0_isIn 1 = .ok (.lload_n 2, 1) := dk_32 (dk_at dksX0_isIn_0 1 rfl rfl)
theorem dX0_isIn_2 : decode cX0_isIn 2 = .ok (.lcmp, 1) := dk_148 (dk_at dksX0_isIn_0 2 rfl rfl)
theorem dX0_isIn_3 : decode cX0_isIn 3 = .ok (.ifCond .lt 14, 3) := dk_155 0 14 (dk_at dksX0_isIn_0 3 rfl rfl)
theorem dX0_isIn_6 : decode cX0_isIn 6 = .ok (.lload_n 0, 1) := dk_30 (dk_at dksX0_isIn_0 6 rfl rfl)
theorem dX0_isIn_7 : decode cX0_isIn 7 = .ok (.lload 4, 2) := dk_22 4 (dk_at dksX0_isIn_0 7 rfl rfl)
theorem dX0_isIn_9 : decode cX0_isIn 9 = .ok (.lcmp, 1) := dk_148 (dk_at dksX0_isIn_0 9 rfl rfl)
theorem dX0_isIn_10 : decode cX0_isIn 10 = .ok (.ifCond .gt 7, 3) := dk_157 0 7 (dk_at dksX0_isIn_0 10 rfl rfl)
theorem dX0_isIn_13 : decode cX0_isIn 13 = .ok (.iconst 1, 1) := dk_4 (dk_at dksX0_isIn_0 13 rfl rfl)
theorem dX0_isIn_14 : decode cX0_isIn 14 = .ok (.goto 4, 3) := dk_167 0 4 (dk_at dksX0_isIn_0 14 rfl rfl)
theorem dX0_isIn_17 : decode cX0_isIn 17 = .ok (.iconst 0, 1) := dk_3 (dk_at dksX0_isIn_0 17 rfl rfl)
theorem dX0_isIn_18 : decode cX0_isIn 18 = .ok (.ireturn, 1) := dk_172 (dk_at dksX0_isIn_0 18 rfl rfl)
abbrev cX0_paidByAll : ByteArray := prog_1_method_35_code
def yX0_paidByAll : MethodName := ⟨RX0, "paidByAll", "()I"⟩
def dkwX0_paidByAll_1 : List UInt8 := [46, 96, 60, 132, 2, 1, 167, 255, 230, 27, 172]
abbrev dktX0_paidByAll_1 : List UInt8 := dkwX0_paidByAll_1 ++ []
def dkwX0_paidByAll_0 : List UInt8 := [3, 60, 3, 61, 28, 42, 182, 0, 163, 180, 0, 167, 162, 0, 21, 27, 42, 182, 0, 163, 180, 0, 228, 28]
abbrev dktX0_paidByAll_0 : List UInt8 := dkwX0_paidByAll_0 ++ dktX0_paidByAll_1
theorem dksX0_paidByAll_0 : cX0_paidByAll.data.toList.drop 0 = dktX0_paidByAll_0 := by decide +kernel
theorem dksX0_paidByAll_1 : cX0_paidByAll.data.toList.drop 24 = dktX0_paidByAll_1 := dk_seg dksX0_paidByAll_0 24 rfl rfl
theorem dX0_paidByAll_0 : decode cX0_paidByAll 0 = .ok (.iconst 0, 1) := dk_3 (dk_at dksX0_paidByAll_0 0 rfl rfl)
theorem dX0_paidByAll_1 : decode cX0_paidByAll 1 = .ok (.istore_n 1, 1) := dk_60 (dk_at dksX0_paidByAll_0 1 rfl rfl)
theorem dX0_paidByAll_2 : decode cX0_paidByAll 2 = .ok (.iconst 0, 1) := dk_3 (dk_at dksX0_paidByAll_0 2 rfl rfl)
theorem dX0_paidByAll_3 : decode cX0_paidByAll 3 = .ok (.istore_n 2, 1) := dk_61 (dk_at dksX0_paidByAll_0 3 rfl rfl)
theorem dX0_paidByAll_4 : decode cX0_paidByAll 4 = .ok (.iload_n 2, 1) := dk_28 (dk_at dksX0_paidByAll_0 4 rfl rfl)
theorem dX0_paidByAll_5 : decode cX0_paidByAll 5 = .ok (.aload_n 0, 1) := dk_42 (dk_at dksX0_paidByAll_0 5 rfl rfl)
theorem dX0_paidByAll_6 : decode cX0_paidByAll 6 = .ok (.invokevirtual 163, 3) := dk_182 0 163 (dk_at dksX0_paidByAll_0 6 rfl rfl)
theorem dX0_paidByAll_9 : decode cX0_paidByAll 9 = .ok (.getfield 167, 3) := dk_180 0 167 (dk_at dksX0_paidByAll_0 9 rfl rfl)
theorem dX0_paidByAll_12 : decode cX0_paidByAll 12 = .ok (.if_icmp .ge 21, 3) := dk_162 0 21 (dk_at dksX0_paidByAll_0 12 rfl rfl)
theorem dX0_paidByAll_15 : decode cX0_paidByAll 15 = .ok (.iload_n 1, 1) := dk_27 (dk_at dksX0_paidByAll_0 15 rfl rfl)
theorem dX0_paidByAll_16 : decode cX0_paidByAll 16 = .ok (.aload_n 0, 1) := dk_42 (dk_at dksX0_paidByAll_0 16 rfl rfl)
theorem dX0_paidByAll_17 : decode cX0_paidByAll 17 = .ok (.invokevirtual 163, 3) := dk_182 0 163 (dk_at dksX0_paidByAll_0 17 rfl rfl)
theorem dX0_paidByAll_20 : decode cX0_paidByAll 20 = .ok (.getfield 228, 3) := dk_180 0 228 (dk_at dksX0_paidByAll_0 20 rfl rfl)
theorem dX0_paidByAll_23 : decode cX0_paidByAll 23 = .ok (.iload_n 2, 1) := dk_28 (dk_at dksX0_paidByAll_0 23 rfl rfl)
theorem dX0_paidByAll_24 : decode cX0_paidByAll 24 = .ok (.iaload, 1) := dk_46 (dk_at dksX0_paidByAll_1 0 rfl rfl)
theorem dX0_paidByAll_25 : decode cX0_paidByAll 25 = .ok (.iadd, 1) := dk_96 (dk_at dksX0_paidByAll_1 1 rfl rfl)
theorem dX0_paidByAll_26 : decode cX0_paidByAll 26 = .ok (.istore_n 1, 1) := dk_60 (dk_at dksX0_paidByAll_1 2 rfl rfl)
theorem dX0_paidByAll_27 : decode cX0_paidByAll 27 = .ok (.iinc 2 1, 3) := dk_132 2 1 (dk_at dksX0_paidByAll_1 3 rfl rfl)
theorem dX0_paidByAll_30 : decode cX0_paidByAll 30 = .ok (.goto (-26), 3) := dk_167 255 230 (dk_at dksX0_paidByAll_1 6 rfl rfl)
theorem dX0_paidByAll_33 : decode cX0_paidByAll 33 = .ok (.iload_n 1, 1) := dk_27 (dk_at dksX0_paidByAll_1 9 rfl rfl)
theorem dX0_paidByAll_34 : decode cX0_paidByAll 34 = .ok (.ireturn, 1) := dk_172 (dk_at dksX0_paidByAll_1 10 rfl rfl)
abbrev cX0_person : ByteArray := prog_1_method_37_code
def yX0_person : MethodName := ⟨RX0, "person", "(II)I"⟩
def dkwX0_person_5 : List UInt8 := [182, 1, 40, 172, 42, 182, 0, 163, 180, 0, 228, 27, 46, 172]
abbrev dktX0_person_5 : List UInt8 := dkwX0_person_5 ++ []
def dkwX0_person_4 : List UInt8 := [180, 1, 31, 172, 42, 27, 182, 1, 19, 180, 1, 34, 172, 42, 42, 27, 182, 1, 19, 180, 1, 37]
abbrev dktX0_person_4 : List UInt8 := dkwX0_person_4 ++ dktX0_person_5
def dkwX0_person_3 : List UInt8 := [42, 27, 182, 1, 19, 180, 1, 23, 172, 42, 27, 182, 1, 19, 180, 1, 28, 172, 42, 27, 182, 1, 19]
abbrev dktX0_person_3 : List UInt8 := dkwX0_person_3 ++ dktX0_person_4
def dkwX0_person_2 : List UInt8 := [170, 0, 0, 0, 82, 0, 0, 0, 0, 0, 0, 0, 4, 0, 0, 0, 33, 0, 0, 0, 42, 0, 0, 0, 51, 0, 0, 0, 60, 0, 0, 0, 69]
abbrev dktX0_person_2 : List UInt8 := dkwX0_person_2 ++ dktX0_person_3
def dkwX0_person_1 : List UInt8 := [167, 0, 4, 4, 181, 0, 82, 42, 180, 0, 82, 158, 0, 5, 2, 172, 28]
abbrev dktX0_person_1 : List UInt8 := dkwX0_person_1 ++ dktX0_person_2
def dkwX0_person_0 : List UInt8 := [42, 42, 27, 182, 0, 174, 153, 0, 19, 28, 133, 9, 20, 1, 17, 184, 0, 170, 153, 0, 7, 3]
abbrev dktX0_person_0 : List UInt8 := dkwX0_person_0 ++ dktX0_person_1
theorem dksX0_person_0 : cX0_person.data.toList.drop 0 = dktX0_person_0 := by decide +kernel
theorem dksX0_person_1 : cX0_person.data.toList.drop 22 = dktX0_person_1 := dk_seg dksX0_person_0 22 rfl rfl
theorem dksX0_person_2 : cX0_person.data.toList.drop 39 = dktX0_person_2 := dk_seg dksX0_person_1 17 rfl rfl
theorem dksX0_person_3 : cX0_person.data.toList.drop 72 = dktX0_person_3 := dk_seg dksX0_person_2 33 rfl rfl
theorem dksX0_person_4 : cX0_person.data.toList.drop 95 = dktX0_person_4 := dk_seg dksX0_person_3 23 rfl rfl
theorem dksX0_person_5 : cX0_person.data.toList.drop 117 = dktX0_person_5 := dk_seg dksX0_person_4 22 rfl rfl
theorem dX0_person_0 : decode cX0_person 0 = .ok (.aload_n 0, 1) := dk_42 (dk_at dksX0_person_0 0 rfl rfl)
theorem dX0_person_1 : decode cX0_person 1 = .ok (.aload_n 0, 1) := dk_42 (dk_at dksX0_person_0 1 rfl rfl)
theorem dX0_person_2 : decode cX0_person 2 = .ok (.iload_n 1, 1) := dk_27 (dk_at dksX0_person_0 2 rfl rfl)
theorem dX0_person_3 : decode cX0_person 3 = .ok (.invokevirtual 174, 3) := dk_182 0 174 (dk_at dksX0_person_0 3 rfl rfl)
theorem dX0_person_6 : decode cX0_person 6 = .ok (.ifCond .eq 19, 3) := dk_153 0 19 (dk_at dksX0_person_0 6 rfl rfl)
theorem dX0_person_9 : decode cX0_person 9 = .ok (.iload_n 2, 1) := dk_28 (dk_at dksX0_person_0 9 rfl rfl)
theorem dX0_person_10 : decode cX0_person 10 = .ok (.i2l, 1) := dk_133 (dk_at dksX0_person_0 10 rfl rfl)
theorem dX0_person_11 : decode cX0_person 11 = .ok (.lconst 0, 1) := dk_9 (dk_at dksX0_person_0 11 rfl rfl)
theorem dX0_person_12 : decode cX0_person 12 = .ok (.ldc2_w 273, 3) := dk_20 1 17 (dk_at dksX0_person_0 12 rfl rfl)
theorem dX0_person_15 : decode cX0_person 15 = .ok (.invokestatic 170, 3) := dk_184 0 170 (dk_at dksX0_person_0 15 rfl rfl)
theorem dX0_person_18 : decode cX0_person 18 = .ok (.ifCond .eq 7, 3) := dk_153 0 7 (dk_at dksX0_person_0 18 rfl rfl)
theorem dX0_person_21 : decode cX0_person 21 = .ok (.iconst 0, 1) := dk_3 (dk_at dksX0_person_0 21 rfl rfl)
theorem dX0_person_22 : decode cX0_person 22 = .ok (.goto 4, 3) := dk_167 0 4 (dk_at dksX0_person_1 0 rfl rfl)
theorem dX0_person_25 : decode cX0_person 25 = .ok (.iconst 1, 1) := dk_4 (dk_at dksX0_person_1 3 rfl rfl)
theorem dX0_person_26 : decode cX0_person 26 = .ok (.putfield 82, 3) := dk_181 0 82 (dk_at dksX0_person_1 4 rfl rfl)
theorem dX0_person_29 : decode cX0_person 29 = .ok (.aload_n 0, 1) := dk_42 (dk_at dksX0_person_1 7 rfl rfl)
theorem dX0_person_30 : decode cX0_person 30 = .ok (.getfield 82, 3) := dk_180 0 82 (dk_at dksX0_person_1 8 rfl rfl)
theorem dX0_person_33 : decode cX0_person 33 = .ok (.ifCond .le 5, 3) := dk_158 0 5 (dk_at dksX0_person_1 11 rfl rfl)
theorem dX0_person_36 : decode cX0_person 36 = .ok (.iconst (-1), 1) := dk_2 (dk_at dksX0_person_1 14 rfl rfl)
theorem dX0_person_37 : decode cX0_person 37 = .ok (.ireturn, 1) := dk_172 (dk_at dksX0_person_1 15 rfl rfl)
theorem dX0_person_38 : decode cX0_person 38 = .ok (.iload_n 2, 1) := dk_28 (dk_at dksX0_person_1 16 rfl rfl)
theorem dX0_person_39 : decode cX0_person 39 = .ok (.tableswitch 82 0 4 #[33, 42, 51, 60, 69], 33) := by decide +kernel
theorem dX0_person_72 : decode cX0_person 72 = .ok (.aload_n 0, 1) := dk_42 (dk_at dksX0_person_3 0 rfl rfl)
theorem dX0_person_73 : decode cX0_person 73 = .ok (.iload_n 1, 1) := dk_27 (dk_at dksX0_person_3 1 rfl rfl)
theorem dX0_person_74 : decode cX0_person 74 = .ok (.invokevirtual 275, 3) := dk_182 1 19 (dk_at dksX0_person_3 2 rfl rfl)
theorem dX0_person_77 : decode cX0_person 77 = .ok (.getfield 279, 3) := dk_180 1 23 (dk_at dksX0_person_3 5 rfl rfl)
theorem dX0_person_80 : decode cX0_person 80 = .ok (.ireturn, 1) := dk_172 (dk_at dksX0_person_3 8 rfl rfl)
theorem dX0_person_81 : decode cX0_person 81 = .ok (.aload_n 0, 1) := dk_42 (dk_at dksX0_person_3 9 rfl rfl)
theorem dX0_person_82 : decode cX0_person 82 = .ok (.iload_n 1, 1) := dk_27 (dk_at dksX0_person_3 10 rfl rfl)
theorem dX0_person_83 : decode cX0_person 83 = .ok (.invokevirtual 275, 3) := dk_182 1 19 (dk_at dksX0_person_3 11 rfl rfl)
theorem dX0_person_86 : decode cX0_person 86 = .ok (.getfield 284, 3) := dk_180 1 28 (dk_at dksX0_person_3 14 rfl rfl)
theorem dX0_person_89 : decode cX0_person 89 = .ok (.ireturn, 1) := dk_172 (dk_at dksX0_person_3 17 rfl rfl)
theorem dX0_person_90 : decode cX0_person 90 = .ok (.aload_n 0, 1) := dk_42 (dk_at dksX0_person_3 18 rfl rfl)
theorem dX0_person_91 : decode cX0_person 91 = .ok (.iload_n 1, 1) := dk_27 (dk_at dksX0_person_3 19 rfl rfl)
theorem dX0_person_92 : decode cX0_person 92 = .ok (.invokevirtual 275, 3) := dk_182 1 19 (dk_at dksX0_person_3 20 rfl rfl)
theorem dX0_person_95 : decode cX0_person 95 = .ok (.getfield 287, 3) := dk_180 1 31 (dk_at dksX0_person_4 0 rfl rfl)
theorem dX0_person_98 : decode cX0_person 98 = .ok (.ireturn, 1) := dk_172 (dk_at dksX0_person_4 3 rfl rfl)
theorem dX0_person_99 : decode cX0_person 99 = .ok (.aload_n 0, 1) := dk_42 (dk_at dksX0_person_4 4 rfl rfl)
theorem dX0_person_100 : decode cX0_person 100 = .ok (.iload_n 1, 1) := dk_27 (dk_at dksX0_person_4 5 rfl rfl)
theorem dX0_person_101 : decode cX0_person 101 = .ok (.invokevirtual 275, 3) := dk_182 1 19 (dk_at dksX0_person_4 6 rfl rfl)
theorem dX0_person_104 : decode cX0_person 104 = .ok (.getfield 290, 3) := dk_180 1 34 (dk_at dksX0_person_4 9 rfl rfl)
theorem dX0_person_107 : decode cX0_person 107 = .ok (.ireturn, 1) := dk_172 (dk_at dksX0_person_4 12 rfl rfl)
theorem dX0_person_108 : decode cX0_person 108 = .ok (.aload_n 0, 1) := dk_42 (dk_at dksX0_person_4 13 rfl rfl)
theorem dX0_person_109 : decode cX0_person 109 = .ok (.aload_n 0, 1) := dk_42 (dk_at dksX0_person_4 14 rfl rfl)
theorem dX0_person_110 : decode cX0_person 110 = .ok (.iload_n 1, 1) := dk_27 (dk_at dksX0_person_4 15 rfl rfl)
theorem dX0_person_111 : decode cX0_person 111 = .ok (.invokevirtual 275, 3) := dk_182 1 19 (dk_at dksX0_person_4 16 rfl rfl)
theorem dX0_person_114 : decode cX0_person 114 = .ok (.getfield 293, 3) := dk_180 1 37 (dk_at dksX0_person_4 19 rfl rfl)
theorem dX0_person_117 : decode cX0_person 117 = .ok (.invokevirtual 296, 3) := dk_182 1 40 (dk_at dksX0_person_5 0 rfl rfl)
theorem dX0_person_120 : decode cX0_person 120 = .ok (.ireturn, 1) := dk_172 (dk_at dksX0_person_5 3 rfl rfl)
theorem dX0_person_121 : decode cX0_person 121 = .ok (.aload_n 0, 1) := dk_42 (dk_at dksX0_person_5 4 rfl rfl)
theorem dX0_person_122 : decode cX0_person 122 = .ok (.invokevirtual 163, 3) := dk_182 0 163 (dk_at dksX0_person_5 5 rfl rfl)
theorem dX0_person_125 : decode cX0_person 125 = .ok (.getfield 228, 3) := dk_180 0 228 (dk_at dksX0_person_5 8 rfl rfl)
theorem dX0_person_128 : decode cX0_person 128 = .ok (.iload_n 1, 1) := dk_27 (dk_at dksX0_person_5 11 rfl rfl)
theorem dX0_person_129 : decode cX0_person 129 = .ok (.iaload, 1) := dk_46 (dk_at dksX0_person_5 12 rfl rfl)
theorem dX0_person_130 : decode cX0_person 130 = .ok (.ireturn, 1) := dk_172 (dk_at dksX0_person_5 13 rfl rfl)
abbrev cX0_isPerson : ByteArray := prog_1_method_22_code
def yX0_isPerson : MethodName := ⟨RX0, "isPerson", "(I)Z"⟩
def dkwX0_isPerson_0 : List UInt8 := [27, 133, 9, 42, 182, 0, 163, 180, 0, 167, 4, 100, 133, 184, 0, 170, 172]
abbrev dktX0_isPerson_0 : List UInt8 := dkwX0_isPerson_0 ++ []
theorem dksX0_isPerson_0 : cX0_isPerson.data.toList.drop 0 = dktX0_isPerson_0 := by decide +kernel
theorem dX0_isPerson_0 : decode cX0_isPerson 0 = .ok (.iload_n 1, 1) := dk_27 (dk_at dksX0_isPerson_0 0 rfl rfl)
theorem dX0_isPerson_1 : decode cX0_isPerson 1 = .ok (.i2l, 1) := dk_133 (dk_at dksX0_isPerson_0 1 rfl rfl)
theorem dX0_isPerson_2 : decode cX0_isPerson 2 = .ok (.lconst 0, 1) := dk_9 (dk_at dksX0_isPerson_0 2 rfl rfl)
theorem dX0_isPerson_3 : decode cX0_isPerson 3 = .ok (.aload_n 0, 1) := dk_42 (dk_at dksX0_isPerson_0 3 rfl rfl)
theorem dX0_isPerson_4 : decode cX0_isPerson 4 = .ok (.invokevirtual 163, 3) := dk_182 0 163 (dk_at dksX0_isPerson_0 4 rfl rfl)
theorem dX0_isPerson_7 : decode cX0_isPerson 7 = .ok (.getfield 167, 3) := dk_180 0 167 (dk_at dksX0_isPerson_0 7 rfl rfl)
theorem dX0_isPerson_10 : decode cX0_isPerson 10 = .ok (.iconst 1, 1) := dk_4 (dk_at dksX0_isPerson_0 10 rfl rfl)
theorem dX0_isPerson_11 : decode cX0_isPerson 11 = .ok (.isub, 1) := dk_100 (dk_at dksX0_isPerson_0 11 rfl rfl)
theorem dX0_isPerson_12 : decode cX0_isPerson 12 = .ok (.i2l, 1) := dk_133 (dk_at dksX0_isPerson_0 12 rfl rfl)
theorem dX0_isPerson_13 : decode cX0_isPerson 13 = .ok (.invokestatic 170, 3) := dk_184 0 170 (dk_at dksX0_isPerson_0 13 rfl rfl)
theorem dX0_isPerson_16 : decode cX0_isPerson 16 = .ok (.ireturn, 1) := dk_172 (dk_at dksX0_isPerson_0 16 rfl rfl)
abbrev cX0_one : ByteArray := prog_1_method_21_code
def yX0_one : MethodName := ⟨RX0, "one", "(I)LLetMe$Person;"⟩
def dkwX0_one_0 : List UInt8 := [42, 180, 0, 55, 180, 0, 156, 180, 0, 159, 27, 50, 176]
abbrev dktX0_one_0 : List UInt8 := dkwX0_one_0 ++ []
theorem dksX0_one_0 : cX0_one.data.toList.drop 0 = dktX0_one_0 := by decide +kernel
theorem dX0_one_0 : decode cX0_one 0 = .ok (.aload_n 0, 1) := dk_42 (dk_at dksX0_one_0 0 rfl rfl)
theorem dX0_one_1 : decode cX0_one 1 = .ok (.getfield 55, 3) := dk_180 0 55 (dk_at dksX0_one_0 1 rfl rfl)
theorem dX0_one_4 : decode cX0_one 4 = .ok (.getfield 156, 3) := dk_180 0 156 (dk_at dksX0_one_0 4 rfl rfl)
theorem dX0_one_7 : decode cX0_one 7 = .ok (.getfield 159, 3) := dk_180 0 159 (dk_at dksX0_one_0 7 rfl rfl)
theorem dX0_one_10 : decode cX0_one 10 = .ok (.iload_n 1, 1) := dk_27 (dk_at dksX0_one_0 10 rfl rfl)
theorem dX0_one_11 : decode cX0_one 11 = .ok (.aaload, 1) := dk_50 (dk_at dksX0_one_0 11 rfl rfl)
theorem dX0_one_12 : decode cX0_one 12 = .ok (.areturn, 1) := dk_176 (dk_at dksX0_one_0 12 rfl rfl)
abbrev cX0_answer : ByteArray := prog_1_method_27_code
def yX0_answer : MethodName := ⟨RX0, "answer", "(I)I"⟩
def dkwX0_answer_0 : List UInt8 := [42, 27, 156, 0, 8, 16, 6, 167, 0, 4, 3, 181, 0, 82, 27, 172]
abbrev dktX0_answer_0 : List UInt8 := dkwX0_answer_0 ++ []
theorem dksX0_answer_0 : cX0_answer.data.toList.drop 0 = dktX0_answer_0 := by decide +kernel
theorem dX0_answer_0 : decode cX0_answer 0 = .ok (.aload_n 0, 1) := dk_42 (dk_at dksX0_answer_0 0 rfl rfl)
theorem dX0_answer_1 : decode cX0_answer 1 = .ok (.iload_n 1, 1) := dk_27 (dk_at dksX0_answer_0 1 rfl rfl)
theorem dX0_answer_2 : decode cX0_answer 2 = .ok (.ifCond .ge 8, 3) := dk_156 0 8 (dk_at dksX0_answer_0 2 rfl rfl)
theorem dX0_answer_5 : decode cX0_answer 5 = .ok (.bipush 6, 2) := dk_16 6 (dk_at dksX0_answer_0 5 rfl rfl)
theorem dX0_answer_7 : decode cX0_answer 7 = .ok (.goto 4, 3) := dk_167 0 4 (dk_at dksX0_answer_0 7 rfl rfl)
theorem dX0_answer_10 : decode cX0_answer 10 = .ok (.iconst 0, 1) := dk_3 (dk_at dksX0_answer_0 10 rfl rfl)
theorem dX0_answer_11 : decode cX0_answer 11 = .ok (.putfield 82, 3) := dk_181 0 82 (dk_at dksX0_answer_0 11 rfl rfl)
theorem dX0_answer_14 : decode cX0_answer 14 = .ok (.iload_n 1, 1) := dk_27 (dk_at dksX0_answer_0 14 rfl rfl)
theorem dX0_answer_15 : decode cX0_answer 15 = .ok (.ireturn, 1) := dk_172 (dk_at dksX0_answer_0 15 rfl rfl)
abbrev cX0_dish : ByteArray := prog_1_method_38_code
def yX0_dish : MethodName := ⟨RX0, "dish", "(II)I"⟩
def dkwX0_dish_3 : List UInt8 := [180, 1, 46, 27, 46, 182, 1, 40, 172]
abbrev dktX0_dish_3 : List UInt8 := dkwX0_dish_3 ++ []
def dkwX0_dish_2 : List UInt8 := [167, 0, 32, 28, 154, 0, 15, 42, 182, 0, 163, 180, 1, 43, 27, 46, 167, 0, 16, 42, 42, 182, 0, 163]
abbrev dktX0_dish_2 : List UInt8 := dkwX0_dish_2 ++ dktX0_dish_3
def dkwX0_dish_1 : List UInt8 := [184, 0, 170, 153, 0, 7, 3, 167, 0, 4, 4, 181, 0, 82, 42, 180, 0, 82, 158, 0, 7, 2]
abbrev dktX0_dish_1 : List UInt8 := dkwX0_dish_1 ++ dktX0_dish_2
def dkwX0_dish_0 : List UInt8 := [42, 27, 133, 9, 42, 182, 0, 163, 180, 0, 236, 4, 100, 133, 184, 0, 170, 153, 0, 17, 28, 133, 9, 10]
abbrev dktX0_dish_0 : List UInt8 := dkwX0_dish_0 ++ dktX0_dish_1
theorem dksX0_dish_0 : cX0_dish.data.toList.drop 0 = dktX0_dish_0 := by decide +kernel
theorem dksX0_dish_1 : cX0_dish.data.toList.drop 24 = dktX0_dish_1 := dk_seg dksX0_dish_0 24 rfl rfl
theorem dksX0_dish_2 : cX0_dish.data.toList.drop 46 = dktX0_dish_2 := dk_seg dksX0_dish_1 22 rfl rfl
theorem dksX0_dish_3 : cX0_dish.data.toList.drop 70 = dktX0_dish_3 := dk_seg dksX0_dish_2 24 rfl rfl
theorem dX0_dish_0 : decode cX0_dish 0 = .ok (.aload_n 0, 1) := dk_42 (dk_at dksX0_dish_0 0 rfl rfl)
theorem dX0_dish_1 : decode cX0_dish 1 = .ok (.iload_n 1, 1) := dk_27 (dk_at dksX0_dish_0 1 rfl rfl)
theorem dX0_dish_2 : decode cX0_dish 2 = .ok (.i2l, 1) := dk_133 (dk_at dksX0_dish_0 2 rfl rfl)
theorem dX0_dish_3 : decode cX0_dish 3 = .ok (.lconst 0, 1) := dk_9 (dk_at dksX0_dish_0 3 rfl rfl)
theorem dX0_dish_4 : decode cX0_dish 4 = .ok (.aload_n 0, 1) := dk_42 (dk_at dksX0_dish_0 4 rfl rfl)
theorem dX0_dish_5 : decode cX0_dish 5 = .ok (.invokevirtual 163, 3) := dk_182 0 163 (dk_at dksX0_dish_0 5 rfl rfl)
theorem dX0_dish_8 : decode cX0_dish 8 = .ok (.getfield 236, 3) := dk_180 0 236 (dk_at dksX0_dish_0 8 rfl rfl)
theorem dX0_dish_11 : decode cX0_dish 11 = .ok (.iconst 1, 1) := dk_4 (dk_at dksX0_dish_0 11 rfl rfl)
theorem dX0_dish_12 : decode cX0_dish 12 = .ok (.isub, 1) := dk_100 (dk_at dksX0_dish_0 12 rfl rfl)
theorem dX0_dish_13 : decode cX0_dish 13 = .ok (.i2l, 1) := dk_133 (dk_at dksX0_dish_0 13 rfl rfl)
theorem dX0_dish_14 : decode cX0_dish 14 = .ok (.invokestatic 170, 3) := dk_184 0 170 (dk_at dksX0_dish_0 14 rfl rfl)
theorem dX0_dish_17 : decode cX0_dish 17 = .ok (.ifCond .eq 17, 3) := dk_153 0 17 (dk_at dksX0_dish_0 17 rfl rfl)
theorem dX0_dish_20 : decode cX0_dish 20 = .ok (.iload_n 2, 1) := dk_28 (dk_at dksX0_dish_0 20 rfl rfl)
theorem dX0_dish_21 : decode cX0_dish 21 = .ok (.i2l, 1) := dk_133 (dk_at dksX0_dish_0 21 rfl rfl)
theorem dX0_dish_22 : decode cX0_dish 22 = .ok (.lconst 0, 1) := dk_9 (dk_at dksX0_dish_0 22 rfl rfl)
theorem dX0_dish_23 : decode cX0_dish 23 = .ok (.lconst 1, 1) := dk_10 (dk_at dksX0_dish_0 23 rfl rfl)
theorem dX0_dish_24 : decode cX0_dish 24 = .ok (.invokestatic 170, 3) := dk_184 0 170 (dk_at dksX0_dish_1 0 rfl rfl)
theorem dX0_dish_27 : decode cX0_dish 27 = .ok (.ifCond .eq 7, 3) := dk_153 0 7 (dk_at dksX0_dish_1 3 rfl rfl)
theorem dX0_dish_30 : decode cX0_dish 30 = .ok (.iconst 0, 1) := dk_3 (dk_at dksX0_dish_1 6 rfl rfl)
theorem dX0_dish_31 : decode cX0_dish 31 = .ok (.goto 4, 3) := dk_167 0 4 (dk_at dksX0_dish_1 7 rfl rfl)
theorem dX0_dish_34 : decode cX0_dish 34 = .ok (.iconst 1, 1) := dk_4 (dk_at dksX0_dish_1 10 rfl rfl)
theorem dX0_dish_35 : decode cX0_dish 35 = .ok (.putfield 82, 3) := dk_181 0 82 (dk_at dksX0_dish_1 11 rfl rfl)
theorem dX0_dish_38 : decode cX0_dish 38 = .ok (.aload_n 0, 1) := dk_42 (dk_at dksX0_dish_1 14 rfl rfl)
theorem dX0_dish_39 : decode cX0_dish 39 = .ok (.getfield 82, 3) := dk_180 0 82 (dk_at dksX0_dish_1 15 rfl rfl)
theorem dX0_dish_42 : decode cX0_dish 42 = .ok (.ifCond .le 7, 3) := dk_158 0 7 (dk_at dksX0_dish_1 18 rfl rfl)
theorem dX0_dish_45 : decode cX0_dish 45 = .ok (.iconst (-1), 1) := dk_2 (dk_at dksX0_dish_1 21 rfl rfl)
theorem dX0_dish_46 : decode cX0_dish 46 = .ok (.goto 32, 3) := dk_167 0 32 (dk_at dksX0_dish_2 0 rfl rfl)
theorem dX0_dish_49 : decode cX0_dish 49 = .ok (.iload_n 2, 1) := dk_28 (dk_at dksX0_dish_2 3 rfl rfl)
theorem dX0_dish_50 : decode cX0_dish 50 = .ok (.ifCond .ne 15, 3) := dk_154 0 15 (dk_at dksX0_dish_2 4 rfl rfl)
theorem dX0_dish_53 : decode cX0_dish 53 = .ok (.aload_n 0, 1) := dk_42 (dk_at dksX0_dish_2 7 rfl rfl)
theorem dX0_dish_54 : decode cX0_dish 54 = .ok (.invokevirtual 163, 3) := dk_182 0 163 (dk_at dksX0_dish_2 8 rfl rfl)
theorem dX0_dish_57 : decode cX0_dish 57 = .ok (.getfield 299, 3) := dk_180 1 43 (dk_at dksX0_dish_2 11 rfl rfl)
theorem dX0_dish_60 : decode cX0_dish 60 = .ok (.iload_n 1, 1) := dk_27 (dk_at dksX0_dish_2 14 rfl rfl)
theorem dX0_dish_61 : decode cX0_dish 61 = .ok (.iaload, 1) := dk_46 (dk_at dksX0_dish_2 15 rfl rfl)
theorem dX0_dish_62 : decode cX0_dish 62 = .ok (.goto 16, 3) := dk_167 0 16 (dk_at dksX0_dish_2 16 rfl rfl)
theorem dX0_dish_65 : decode cX0_dish 65 = .ok (.aload_n 0, 1) := dk_42 (dk_at dksX0_dish_2 19 rfl rfl)
theorem dX0_dish_66 : decode cX0_dish 66 = .ok (.aload_n 0, 1) := dk_42 (dk_at dksX0_dish_2 20 rfl rfl)
theorem dX0_dish_67 : decode cX0_dish 67 = .ok (.invokevirtual 163, 3) := dk_182 0 163 (dk_at dksX0_dish_2 21 rfl rfl)
theorem dX0_dish_70 : decode cX0_dish 70 = .ok (.getfield 302, 3) := dk_180 1 46 (dk_at dksX0_dish_3 0 rfl rfl)
theorem dX0_dish_73 : decode cX0_dish 73 = .ok (.iload_n 1, 1) := dk_27 (dk_at dksX0_dish_3 3 rfl rfl)
theorem dX0_dish_74 : decode cX0_dish 74 = .ok (.iaload, 1) := dk_46 (dk_at dksX0_dish_3 4 rfl rfl)
theorem dX0_dish_75 : decode cX0_dish 75 = .ok (.invokevirtual 296, 3) := dk_182 1 40 (dk_at dksX0_dish_3 5 rfl rfl)
theorem dX0_dish_78 : decode cX0_dish 78 = .ok (.ireturn, 1) := dk_172 (dk_at dksX0_dish_3 8 rfl rfl)
abbrev cX0_eaten : ByteArray := prog_1_method_39_code
def yX0_eaten : MethodName := ⟨RX0, "eaten", "(I)I"⟩
def dkwX0_eaten_1 : List UInt8 := [2, 167, 0, 11, 42, 182, 0, 163, 27, 182, 1, 48, 172]
abbrev dktX0_eaten_1 : List UInt8 := dkwX0_eaten_1 ++ []
def dkwX0_eaten_0 : List UInt8 := [42, 42, 27, 182, 0, 174, 153, 0, 7, 3, 167, 0, 4, 4, 181, 0, 82, 42, 180, 0, 82, 158, 0, 7]
abbrev dktX0_eaten_0 : List UInt8 := dkwX0_eaten_0 ++ dktX0_eaten_1
theorem dksX0_eaten_0 : cX0_eaten.data.toList.drop 0 = dktX0_eaten_0 := by decide +kernel
theorem dksX0_eaten_1 : cX0_eaten.data.toList.drop 24 = dktX0_eaten_1 := dk_seg dksX0_eaten_0 24 rfl rfl
theorem dX0_eaten_0 : decode cX0_eaten 0 = .ok (.aload_n 0, 1) := dk_42 (dk_at dksX0_eaten_0 0 rfl rfl)
theorem dX0_eaten_1 : decode cX0_eaten 1 = .ok (.aload_n 0, 1) := dk_42 (dk_at dksX0_eaten_0 1 rfl rfl)
theorem dX0_eaten_2 : decode cX0_eaten 2 = .ok (.iload_n 1, 1) := dk_27 (dk_at dksX0_eaten_0 2 rfl rfl)
theorem dX0_eaten_3 : decode cX0_eaten 3 = .ok (.invokevirtual 174, 3) := dk_182 0 174 (dk_at dksX0_eaten_0 3 rfl rfl)
theorem dX0_eaten_6 : decode cX0_eaten 6 = .ok (.ifCond .eq 7, 3) := dk_153 0 7 (dk_at dksX0_eaten_0 6 rfl rfl)
theorem dX0_eaten_9 : decode cX0_eaten 9 = .ok (.iconst 0, 1) := dk_3 (dk_at dksX0_eaten_0 9 rfl rfl)
theorem dX0_eaten_10 : decode cX0_eaten 10 = .ok (.goto 4, 3) := dk_167 0 4 (dk_at dksX0_eaten_0 10 rfl rfl)
theorem dX0_eaten_13 : decode cX0_eaten 13 = .ok (.iconst 1, 1) := dk_4 (dk_at dksX0_eaten_0 13 rfl rfl)
theorem dX0_eaten_14 : decode cX0_eaten 14 = .ok (.putfield 82, 3) := dk_181 0 82 (dk_at dksX0_eaten_0 14 rfl rfl)
theorem dX0_eaten_17 : decode cX0_eaten 17 = .ok (.aload_n 0, 1) := dk_42 (dk_at dksX0_eaten_0 17 rfl rfl)
theorem dX0_eaten_18 : decode cX0_eaten 18 = .ok (.getfield 82, 3) := dk_180 0 82 (dk_at dksX0_eaten_0 18 rfl rfl)
theorem dX0_eaten_21 : decode cX0_eaten 21 = .ok (.ifCond .le 7, 3) := dk_158 0 7 (dk_at dksX0_eaten_0 21 rfl rfl)
theorem dX0_eaten_24 : decode cX0_eaten 24 = .ok (.iconst (-1), 1) := dk_2 (dk_at dksX0_eaten_1 0 rfl rfl)
theorem dX0_eaten_25 : decode cX0_eaten 25 = .ok (.goto 11, 3) := dk_167 0 11 (dk_at dksX0_eaten_1 1 rfl rfl)
theorem dX0_eaten_28 : decode cX0_eaten 28 = .ok (.aload_n 0, 1) := dk_42 (dk_at dksX0_eaten_1 4 rfl rfl)
theorem dX0_eaten_29 : decode cX0_eaten 29 = .ok (.invokevirtual 163, 3) := dk_182 0 163 (dk_at dksX0_eaten_1 5 rfl rfl)
theorem dX0_eaten_32 : decode cX0_eaten 32 = .ok (.iload_n 1, 1) := dk_27 (dk_at dksX0_eaten_1 8 rfl rfl)
theorem dX0_eaten_33 : decode cX0_eaten 33 = .ok (.invokevirtual 304, 3) := dk_182 1 48 (dk_at dksX0_eaten_1 9 rfl rfl)
theorem dX0_eaten_36 : decode cX0_eaten 36 = .ok (.ireturn, 1) := dk_172 (dk_at dksX0_eaten_1 12 rfl rfl)
abbrev cX0_due : ByteArray := prog_1_method_40_code
def yX0_due : MethodName := ⟨RX0, "due", "(II)I"⟩
def dkwX0_due_1 : List UInt8 := [42, 180, 0, 82, 158, 0, 7, 2, 167, 0, 12, 42, 182, 0, 163, 27, 28, 182, 1, 54, 172]
abbrev dktX0_due_1 : List UInt8 := dkwX0_due_1 ++ []
def dkwX0_due_0 : List UInt8 := [42, 42, 27, 182, 0, 174, 153, 0, 14, 28, 184, 1, 51, 153, 0, 7, 3, 167, 0, 4, 4, 181, 0, 82]
abbrev dktX0_due_0 : List UInt8 := dkwX0_due_0 ++ dktX0_due_1
theorem dksX0_due_0 : cX0_due.data.toList.drop 0 = dktX0_due_0 := by decide +kernel
theorem dksX0_due_1 : cX0_due.data.toList.drop 24 = dktX0_due_1 := dk_seg dksX0_due_0 24 rfl rfl
theorem dX0_due_0 : decode cX0_due 0 = .ok (.aload_n 0, 1) := dk_42 (dk_at dksX0_due_0 0 rfl rfl)
theorem dX0_due_1 : decode cX0_due 1 = .ok (.aload_n 0, 1) := dk_42 (dk_at dksX0_due_0 1 rfl rfl)
theorem dX0_due_2 : decode cX0_due 2 = .ok (.iload_n 1, 1) := dk_27 (dk_at dksX0_due_0 2 rfl rfl)
theorem dX0_due_3 : decode cX0_due 3 = .ok (.invokevirtual 174, 3) := dk_182 0 174 (dk_at dksX0_due_0 3 rfl rfl)
theorem dX0_due_6 : decode cX0_due 6 = .ok (.ifCond .eq 14, 3) := dk_153 0 14 (dk_at dksX0_due_0 6 rfl rfl)
theorem dX0_due_9 : decode cX0_due 9 = .ok (.iload_n 2, 1) := dk_28 (dk_at dksX0_due_0 9 rfl rfl)
theorem dX0_due_10 : decode cX0_due 10 = .ok (.invokestatic 307, 3) := dk_184 1 51 (dk_at dksX0_due_0 10 rfl rfl)
theorem dX0_due_13 : decode cX0_due 13 = .ok (.ifCond .eq 7, 3) := dk_153 0 7 (dk_at dksX0_due_0 13 rfl rfl)
theorem dX0_due_16 : decode cX0_due 16 = .ok (.iconst 0, 1) := dk_3 (dk_at dksX0_due_0 16 rfl rfl)
theorem dX0_due_17 : decode cX0_due 17 = .ok (.goto 4, 3) := dk_167 0 4 (dk_at dksX0_due_0 17 rfl rfl)
theorem dX0_due_20 : decode cX0_due 20 = .ok (.iconst 1, 1) := dk_4 (dk_at dksX0_due_0 20 rfl rfl)
theorem dX0_due_21 : decode cX0_due 21 = .ok (.putfield 82, 3) := dk_181 0 82 (dk_at dksX0_due_0 21 rfl rfl)
theorem dX0_due_24 : decode cX0_due 24 = .ok (.aload_n 0, 1) := dk_42 (dk_at dksX0_due_1 0 rfl rfl)
theorem dX0_due_25 : decode cX0_due 25 = .ok (.getfield 82, 3) := dk_180 0 82 (dk_at dksX0_due_1 1 rfl rfl)
theorem dX0_due_28 : decode cX0_due 28 = .ok (.ifCond .le 7, 3) := dk_158 0 7 (dk_at dksX0_due_1 4 rfl rfl)
theorem dX0_due_31 : decode cX0_due 31 = .ok (.iconst (-1), 1) := dk_2 (dk_at dksX0_due_1 7 rfl rfl)
theorem dX0_due_32 : decode cX0_due 32 = .ok (.goto 12, 3) := dk_167 0 12 (dk_at dksX0_due_1 8 rfl rfl)
theorem dX0_due_35 : decode cX0_due 35 = .ok (.aload_n 0, 1) := dk_42 (dk_at dksX0_due_1 11 rfl rfl)
theorem dX0_due_36 : decode cX0_due 36 = .ok (.invokevirtual 163, 3) := dk_182 0 163 (dk_at dksX0_due_1 12 rfl rfl)
theorem dX0_due_39 : decode cX0_due 39 = .ok (.iload_n 1, 1) := dk_27 (dk_at dksX0_due_1 15 rfl rfl)
theorem dX0_due_40 : decode cX0_due 40 = .ok (.iload_n 2, 1) := dk_28 (dk_at dksX0_due_1 16 rfl rfl)
theorem dX0_due_41 : decode cX0_due 41 = .ok (.invokevirtual 310, 3) := dk_182 1 54 (dk_at dksX0_due_1 17 rfl rfl)
theorem dX0_due_44 : decode cX0_due 44 = .ok (.ireturn, 1) := dk_172 (dk_at dksX0_due_1 20 rfl rfl)
abbrev cX0_isSplit : ByteArray := prog_1_method_24_code
def yX0_isSplit : MethodName := ⟨RX0, "isSplit", "(I)Z"⟩
def dkwX0_isSplit_0 : List UInt8 := [26, 133, 9, 20, 0, 178, 184, 0, 170, 172]
abbrev dktX0_isSplit_0 : List UInt8 := dkwX0_isSplit_0 ++ []
theorem dksX0_isSplit_0 : cX0_isSplit.data.toList.drop 0 = dktX0_isSplit_0 := by decide +kernel
theorem dX0_isSplit_0 : decode cX0_isSplit 0 = .ok (.iload_n 0, 1) := dk_26 (dk_at dksX0_isSplit_0 0 rfl rfl)
theorem dX0_isSplit_1 : decode cX0_isSplit 1 = .ok (.i2l, 1) := dk_133 (dk_at dksX0_isSplit_0 1 rfl rfl)
theorem dX0_isSplit_2 : decode cX0_isSplit 2 = .ok (.lconst 0, 1) := dk_9 (dk_at dksX0_isSplit_0 2 rfl rfl)
theorem dX0_isSplit_3 : decode cX0_isSplit 3 = .ok (.ldc2_w 178, 3) := dk_20 0 178 (dk_at dksX0_isSplit_0 3 rfl rfl)
theorem dX0_isSplit_6 : decode cX0_isSplit 6 = .ok (.invokestatic 170, 3) := dk_184 0 170 (dk_at dksX0_isSplit_0 6 rfl rfl)
theorem dX0_isSplit_9 : decode cX0_isSplit 9 = .ok (.ireturn, 1) := dk_172 (dk_at dksX0_isSplit_0 9 rfl rfl)
abbrev cX0_unfair : ByteArray := prog_1_method_42_code
def yX0_unfair : MethodName := ⟨RX0, "unfair", "(I)I"⟩
def dkwX0_unfair_1 : List UInt8 := [167, 0, 8, 42, 27, 182, 1, 60, 172]
abbrev dktX0_unfair_1 : List UInt8 := dkwX0_unfair_1 ++ []
def dkwX0_unfair_0 : List UInt8 := [42, 27, 184, 1, 51, 153, 0, 7, 3, 167, 0, 4, 4, 181, 0, 82, 42, 180, 0, 82, 158, 0, 7, 2]
abbrev dktX0_unfair_0 : List UInt8 := dkwX0_unfair_0 ++ dktX0_unfair_1
theorem dksX0_unfair_0 : cX0_unfair.data.toList.drop 0 = dktX0_unfair_0 := by decide +kernel
theorem dksX0_unfair_1 : cX0_unfair.data.toList.drop 24 = dktX0_unfair_1 := dk_seg dksX0_unfair_0 24 rfl rfl
theorem dX0_unfair_0 : decode cX0_unfair 0 = .ok (.aload_n 0, 1) := dk_42 (dk_at dksX0_unfair_0 0 rfl rfl)
theorem dX0_unfair_1 : decode cX0_unfair 1 = .ok (.iload_n 1, 1) := dk_27 (dk_at dksX0_unfair_0 1 rfl rfl)
theorem dX0_unfair_2 : decode cX0_unfair 2 = .ok (.invokestatic 307, 3) := dk_184 1 51 (dk_at dksX0_unfair_0 2 rfl rfl)
theorem dX0_unfair_5 : decode cX0_unfair 5 = .ok (.ifCond .eq 7, 3) := dk_153 0 7 (dk_at dksX0_unfair_0 5 rfl rfl)
theorem dX0_unfair_8 : decode cX0_unfair 8 = .ok (.iconst 0, 1) := dk_3 (dk_at dksX0_unfair_0 8 rfl rfl)
theorem dX0_unfair_9 : decode cX0_unfair 9 = .ok (.goto 4, 3) := dk_167 0 4 (dk_at dksX0_unfair_0 9 rfl rfl)
theorem dX0_unfair_12 : decode cX0_unfair 12 = .ok (.iconst 1, 1) := dk_4 (dk_at dksX0_unfair_0 12 rfl rfl)
theorem dX0_unfair_13 : decode cX0_unfair 13 = .ok (.putfield 82, 3) := dk_181 0 82 (dk_at dksX0_unfair_0 13 rfl rfl)
theorem dX0_unfair_16 : decode cX0_unfair 16 = .ok (.aload_n 0, 1) := dk_42 (dk_at dksX0_unfair_0 16 rfl rfl)
theorem dX0_unfair_17 : decode cX0_unfair 17 = .ok (.getfield 82, 3) := dk_180 0 82 (dk_at dksX0_unfair_0 17 rfl rfl)
theorem dX0_unfair_20 : decode cX0_unfair 20 = .ok (.ifCond .le 7, 3) := dk_158 0 7 (dk_at dksX0_unfair_0 20 rfl rfl)
theorem dX0_unfair_23 : decode cX0_unfair 23 = .ok (.iconst (-1), 1) := dk_2 (dk_at dksX0_unfair_0 23 rfl rfl)
theorem dX0_unfair_24 : decode cX0_unfair 24 = .ok (.goto 8, 3) := dk_167 0 8 (dk_at dksX0_unfair_1 0 rfl rfl)
theorem dX0_unfair_27 : decode cX0_unfair 27 = .ok (.aload_n 0, 1) := dk_42 (dk_at dksX0_unfair_1 3 rfl rfl)
theorem dX0_unfair_28 : decode cX0_unfair 28 = .ok (.iload_n 1, 1) := dk_27 (dk_at dksX0_unfair_1 4 rfl rfl)
theorem dX0_unfair_29 : decode cX0_unfair 29 = .ok (.invokevirtual 316, 3) := dk_182 1 60 (dk_at dksX0_unfair_1 5 rfl rfl)
theorem dX0_unfair_32 : decode cX0_unfair 32 = .ok (.ireturn, 1) := dk_172 (dk_at dksX0_unfair_1 8 rfl rfl)
abbrev cX0_unfairOf : ByteArray := prog_1_method_41_code
def yX0_unfairOf : MethodName := ⟨RX0, "unfairOf", "(I)I"⟩
def dkwX0_unfairOf_2 : List UInt8 := [172]
abbrev dktX0_unfairOf_2 : List UInt8 := dkwX0_unfairOf_2 ++ []
def dkwX0_unfairOf_1 : List UInt8 := [182, 1, 54, 42, 182, 0, 163, 29, 182, 1, 48, 100, 184, 1, 58, 96, 61, 132, 3, 1, 167, 255, 218, 28]
abbrev dktX0_unfairOf_1 : List UInt8 := dkwX0_unfairOf_1 ++ dktX0_unfairOf_2
def dkwX0_unfairOf_0 : List UInt8 := [3, 61, 3, 62, 29, 42, 182, 0, 163, 180, 0, 167, 162, 0, 33, 28, 42, 182, 0, 163, 29, 27]
abbrev dktX0_unfairOf_0 : List UInt8 := dkwX0_unfairOf_0 ++ dktX0_unfairOf_1
theorem dksX0_unfairOf_0 : cX0_unfairOf.data.toList.drop 0 = dktX0_unfairOf_0 := by decide +kernel
theorem dksX0_unfairOf_1 : cX0_unfairOf.data.toList.drop 22 = dktX0_unfairOf_1 := dk_seg dksX0_unfairOf_0 22 rfl rfl
theorem dksX0_unfairOf_2 : cX0_unfairOf.data.toList.drop 46 = dktX0_unfairOf_2 := dk_seg dksX0_unfairOf_1 24 rfl rfl
theorem dX0_unfairOf_0 : decode cX0_unfairOf 0 = .ok (.iconst 0, 1) := dk_3 (dk_at dksX0_unfairOf_0 0 rfl rfl)
theorem dX0_unfairOf_1 : decode cX0_unfairOf 1 = .ok (.istore_n 2, 1) := dk_61 (dk_at dksX0_unfairOf_0 1 rfl rfl)
theorem dX0_unfairOf_2 : decode cX0_unfairOf 2 = .ok (.iconst 0, 1) := dk_3 (dk_at dksX0_unfairOf_0 2 rfl rfl)
theorem dX0_unfairOf_3 : decode cX0_unfairOf 3 = .ok (.istore_n 3, 1) := dk_62 (dk_at dksX0_unfairOf_0 3 rfl rfl)
theorem dX0_unfairOf_4 : decode cX0_unfairOf 4 = .ok (.iload_n 3, 1) := dk_29 (dk_at dksX0_unfairOf_0 4 rfl rfl)
theorem dX0_unfairOf_5 : decode cX0_unfairOf 5 = .ok (.aload_n 0, 1) := dk_42 (dk_at dksX0_unfairOf_0 5 rfl rfl)
theorem dX0_unfairOf_6 : decode cX0_unfairOf 6 = .ok (.invokevirtual 163, 3) := dk_182 0 163 (dk_at dksX0_unfairOf_0 6 rfl rfl)
theorem dX0_unfairOf_9 : decode cX0_unfairOf 9 = .ok (.getfield 167, 3) := dk_180 0 167 (dk_at dksX0_unfairOf_0 9 rfl rfl)
theorem dX0_unfairOf_12 : decode cX0_unfairOf 12 = .ok (.if_icmp .ge 33, 3) := dk_162 0 33 (dk_at dksX0_unfairOf_0 12 rfl rfl)
theorem dX0_unfairOf_15 : decode cX0_unfairOf 15 = .ok (.iload_n 2, 1) := dk_28 (dk_at dksX0_unfairOf_0 15 rfl rfl)
theorem dX0_unfairOf_16 : decode cX0_unfairOf 16 = .ok (.aload_n 0, 1) := dk_42 (dk_at dksX0_unfairOf_0 16 rfl rfl)
theorem dX0_unfairOf_17 : decode cX0_unfairOf 17 = .ok (.invokevirtual 163, 3) := dk_182 0 163 (dk_at dksX0_unfairOf_0 17 rfl rfl)
theorem dX0_unfairOf_20 : decode cX0_unfairOf 20 = .ok (.iload_n 3, 1) := dk_29 (dk_at dksX0_unfairOf_0 20 rfl rfl)
theorem dX0_unfairOf_21 : decode cX0_unfairOf 21 = .ok (.iload_n 1, 1) := dk_27 (dk_at dksX0_unfairOf_0 21 rfl rfl)
theorem dX0_unfairOf_22 : decode cX0_unfairOf 22 = .ok (.invokevirtual 310, 3) := dk_182 1 54 (dk_at dksX0_unfairOf_1 0 rfl rfl)
theorem dX0_unfairOf_25 : decode cX0_unfairOf 25 = .ok (.aload_n 0, 1) := dk_42 (dk_at dksX0_unfairOf_1 3 rfl rfl)
theorem dX0_unfairOf_26 : decode cX0_unfairOf 26 = .ok (.invokevirtual 163, 3) := dk_182 0 163 (dk_at dksX0_unfairOf_1 4 rfl rfl)
theorem dX0_unfairOf_29 : decode cX0_unfairOf 29 = .ok (.iload_n 3, 1) := dk_29 (dk_at dksX0_unfairOf_1 7 rfl rfl)
theorem dX0_unfairOf_30 : decode cX0_unfairOf 30 = .ok (.invokevirtual 304, 3) := dk_182 1 48 (dk_at dksX0_unfairOf_1 8 rfl rfl)
theorem dX0_unfairOf_33 : decode cX0_unfairOf 33 = .ok (.isub, 1) := dk_100 (dk_at dksX0_unfairOf_1 11 rfl rfl)
theorem dX0_unfairOf_34 : decode cX0_unfairOf 34 = .ok (.invokestatic 314, 3) := dk_184 1 58 (dk_at dksX0_unfairOf_1 12 rfl rfl)
theorem dX0_unfairOf_37 : decode cX0_unfairOf 37 = .ok (.iadd, 1) := dk_96 (dk_at dksX0_unfairOf_1 15 rfl rfl)
theorem dX0_unfairOf_38 : decode cX0_unfairOf 38 = .ok (.istore_n 2, 1) := dk_61 (dk_at dksX0_unfairOf_1 16 rfl rfl)
theorem dX0_unfairOf_39 : decode cX0_unfairOf 39 = .ok (.iinc 3 1, 3) := dk_132 3 1 (dk_at dksX0_unfairOf_1 17 rfl rfl)
theorem dX0_unfairOf_42 : decode cX0_unfairOf 42 = .ok (.goto (-38), 3) := dk_167 255 218 (dk_at dksX0_unfairOf_1 20 rfl rfl)
theorem dX0_unfairOf_45 : decode cX0_unfairOf 45 = .ok (.iload_n 2, 1) := dk_28 (dk_at dksX0_unfairOf_1 23 rfl rfl)
theorem dX0_unfairOf_46 : decode cX0_unfairOf 46 = .ok (.ireturn, 1) := dk_172 (dk_at dksX0_unfairOf_2 0 rfl rfl)
abbrev cX0_fairest : ByteArray := prog_1_method_43_code
def yX0_fairest : MethodName := ⟨RX0, "fairest", "()I"⟩
def dkwX0_fairest_1 : List UInt8 := [162, 0, 5, 28, 60, 132, 2, 1, 167, 255, 233, 27, 172]
abbrev dktX0_fairest_1 : List UInt8 := dkwX0_fairest_1 ++ []
def dkwX0_fairest_0 : List UInt8 := [42, 3, 181, 0, 82, 3, 60, 4, 61, 28, 5, 163, 0, 24, 42, 28, 182, 1, 60, 42, 27, 182, 1, 60]
abbrev dktX0_fairest_0 : List UInt8 := dkwX0_fairest_0 ++ dktX0_fairest_1
theorem dksX0_fairest_0 : cX0_fairest.data.toList.drop 0 = dktX0_fairest_0 := by decide +kernel
theorem dksX0_fairest_1 : cX0_fairest.data.toList.drop 24 = dktX0_fairest_1 := dk_seg dksX0_fairest_0 24 rfl rfl
theorem dX0_fairest_0 : decode cX0_fairest 0 = .ok (.aload_n 0, 1) := dk_42 (dk_at dksX0_fairest_0 0 rfl rfl)
theorem dX0_fairest_1 : decode cX0_fairest 1 = .ok (.iconst 0, 1) := dk_3 (dk_at dksX0_fairest_0 1 rfl rfl)
theorem dX0_fairest_2 : decode cX0_fairest 2 = .ok (.putfield 82, 3) := dk_181 0 82 (dk_at dksX0_fairest_0 2 rfl rfl)
theorem dX0_fairest_5 : decode cX0_fairest 5 = .ok (.iconst 0, 1) := dk_3 (dk_at dksX0_fairest_0 5 rfl rfl)
theorem dX0_fairest_6 : decode cX0_fairest 6 = .ok (.istore_n 1, 1) := dk_60 (dk_at dksX0_fairest_0 6 rfl rfl)
theorem dX0_fairest_7 : decode cX0_fairest 7 = .ok (.iconst 1, 1) := dk_4 (dk_at dksX0_fairest_0 7 rfl rfl)
theorem dX0_fairest_8 : decode cX0_fairest 8 = .ok (.istore_n 2, 1) := dk_61 (dk_at dksX0_fairest_0 8 rfl rfl)
theorem dX0_fairest_9 : decode cX0_fairest 9 = .ok (.iload_n 2, 1) := dk_28 (dk_at dksX0_fairest_0 9 rfl rfl)
theorem dX0_fairest_10 : decode cX0_fairest 10 = .ok (.iconst 2, 1) := dk_5 (dk_at dksX0_fairest_0 10 rfl rfl)
theorem dX0_fairest_11 : decode cX0_fairest 11 = .ok (.if_icmp .gt 24, 3) := dk_163 0 24 (dk_at dksX0_fairest_0 11 rfl rfl)
theorem dX0_fairest_14 : decode cX0_fairest 14 = .ok (.aload_n 0, 1) := dk_42 (dk_at dksX0_fairest_0 14 rfl rfl)
theorem dX0_fairest_15 : decode cX0_fairest 15 = .ok (.iload_n 2, 1) := dk_28 (dk_at dksX0_fairest_0 15 rfl rfl)
theorem dX0_fairest_16 : decode cX0_fairest 16 = .ok (.invokevirtual 316, 3) := dk_182 1 60 (dk_at dksX0_fairest_0 16 rfl rfl)
theorem dX0_fairest_19 : decode cX0_fairest 19 = .ok (.aload_n 0, 1) := dk_42 (dk_at dksX0_fairest_0 19 rfl rfl)
theorem dX0_fairest_20 : decode cX0_fairest 20 = .ok (.iload_n 1, 1) := dk_27 (dk_at dksX0_fairest_0 20 rfl rfl)
theorem dX0_fairest_21 : decode cX0_fairest 21 = .ok (.invokevirtual 316, 3) := dk_182 1 60 (dk_at dksX0_fairest_0 21 rfl rfl)
theorem dX0_fairest_24 : decode cX0_fairest 24 = .ok (.if_icmp .ge 5, 3) := dk_162 0 5 (dk_at dksX0_fairest_1 0 rfl rfl)
theorem dX0_fairest_27 : decode cX0_fairest 27 = .ok (.iload_n 2, 1) := dk_28 (dk_at dksX0_fairest_1 3 rfl rfl)
theorem dX0_fairest_28 : decode cX0_fairest 28 = .ok (.istore_n 1, 1) := dk_60 (dk_at dksX0_fairest_1 4 rfl rfl)
theorem dX0_fairest_29 : decode cX0_fairest 29 = .ok (.iinc 2 1, 3) := dk_132 2 1 (dk_at dksX0_fairest_1 5 rfl rfl)
theorem dX0_fairest_32 : decode cX0_fairest 32 = .ok (.goto (-23), 3) := dk_167 255 233 (dk_at dksX0_fairest_1 8 rfl rfl)
theorem dX0_fairest_35 : decode cX0_fairest 35 = .ok (.iload_n 1, 1) := dk_27 (dk_at dksX0_fairest_1 11 rfl rfl)
theorem dX0_fairest_36 : decode cX0_fairest 36 = .ok (.ireturn, 1) := dk_172 (dk_at dksX0_fairest_1 12 rfl rfl)
abbrev cX0_dearer : ByteArray := prog_1_method_44_code
def yX0_dearer : MethodName := ⟨RX0, "dearer", "(III)I"⟩
def dkwX0_dearer_2 : List UInt8 := [182, 1, 54, 42, 182, 0, 163, 27, 29, 182, 1, 54, 100, 172]
abbrev dktX0_dearer_2 : List UInt8 := dkwX0_dearer_2 ++ []
def dkwX0_dearer_1 : List UInt8 := [167, 0, 4, 4, 181, 0, 82, 42, 180, 0, 82, 158, 0, 7, 2, 167, 0, 22, 42, 182, 0, 163, 27, 28]
abbrev dktX0_dearer_1 : List UInt8 := dkwX0_dearer_1 ++ dktX0_dearer_2
def dkwX0_dearer_0 : List UInt8 := [42, 42, 27, 182, 0, 174, 153, 0, 21, 28, 184, 1, 51, 153, 0, 14, 29, 184, 1, 51, 153, 0, 7, 3]
abbrev dktX0_dearer_0 : List UInt8 := dkwX0_dearer_0 ++ dktX0_dearer_1
theorem dksX0_dearer_0 : cX0_dearer.data.toList.drop 0 = dktX0_dearer_0 := by decide +kernel
theorem dksX0_dearer_1 : cX0_dearer.data.toList.drop 24 = dktX0_dearer_1 := dk_seg dksX0_dearer_0 24 rfl rfl
theorem dksX0_dearer_2 : cX0_dearer.data.toList.drop 48 = dktX0_dearer_2 := dk_seg dksX0_dearer_1 24 rfl rfl
theorem dX0_dearer_0 : decode cX0_dearer 0 = .ok (.aload_n 0, 1) := dk_42 (dk_at dksX0_dearer_0 0 rfl rfl)
theorem dX0_dearer_1 : decode cX0_dearer 1 = .ok (.aload_n 0, 1) := dk_42 (dk_at dksX0_dearer_0 1 rfl rfl)
theorem dX0_dearer_2 : decode cX0_dearer 2 = .ok (.iload_n 1, 1) := dk_27 (dk_at dksX0_dearer_0 2 rfl rfl)
theorem dX0_dearer_3 : decode cX0_dearer 3 = .ok (.invokevirtual 174, 3) := dk_182 0 174 (dk_at dksX0_dearer_0 3 rfl rfl)
theorem dX0_dearer_6 : decode cX0_dearer 6 = .ok (.ifCond .eq 21, 3) := dk_153 0 21 (dk_at dksX0_dearer_0 6 rfl rfl)
theorem dX0_dearer_9 : decode cX0_dearer 9 = .ok (.iload_n 2, 1) := dk_28 (dk_at dksX0_dearer_0 9 rfl rfl)
theorem dX0_dearer_10 : decode cX0_dearer 10 = .ok (.invokestatic 307, 3) := dk_184 1 51 (dk_at dksX0_dearer_0 10 rfl rfl)
theorem dX0_dearer_13 : decode cX0_dearer 13 = .ok (.ifCond .eq 14, 3) := dk_153 0 14 (dk_at dksX0_dearer_0 13 rfl rfl)
theorem dX0_dearer_16 : decode cX0_dearer 16 = .ok (.iload_n 3, 1) := dk_29 (dk_at dksX0_dearer_0 16 rfl rfl)
theorem dX0_dearer_17 : decode cX0_dearer 17 = .ok (.invokestatic 307, 3) := dk_184 1 51 (dk_at dksX0_dearer_0 17 rfl rfl)
theorem dX0_dearer_20 : decode cX0_dearer 20 = .ok (.ifCond .eq 7, 3) := dk_153 0 7 (dk_at dksX0_dearer_0 20 rfl rfl)
theorem dX0_dearer_23 : decode cX0_dearer 23 = .ok (.iconst 0, 1) := dk_3 (dk_at dksX0_dearer_0 23 rfl rfl)
theorem dX0_dearer_24 : decode cX0_dearer 24 = .ok (.goto 4, 3) := dk_167 0 4 (dk_at dksX0_dearer_1 0 rfl rfl)
theorem dX0_dearer_27 : decode cX0_dearer 27 = .ok (.iconst 1, 1) := dk_4 (dk_at dksX0_dearer_1 3 rfl rfl)
theorem dX0_dearer_28 : decode cX0_dearer 28 = .ok (.putfield 82, 3) := dk_181 0 82 (dk_at dksX0_dearer_1 4 rfl rfl)
theorem dX0_dearer_31 : decode cX0_dearer 31 = .ok (.aload_n 0, 1) := dk_42 (dk_at dksX0_dearer_1 7 rfl rfl)
theorem dX0_dearer_32 : decode cX0_dearer 32 = .ok (.getfield 82, 3) := dk_180 0 82 (dk_at dksX0_dearer_1 8 rfl rfl)
theorem dX0_dearer_35 : decode cX0_dearer 35 = .ok (.ifCond .le 7, 3) := dk_158 0 7 (dk_at dksX0_dearer_1 11 rfl rfl)
theorem dX0_dearer_38 : decode cX0_dearer 38 = .ok (.iconst (-1), 1) := dk_2 (dk_at dksX0_dearer_1 14 rfl rfl)
theorem dX0_dearer_39 : decode cX0_dearer 39 = .ok (.goto 22, 3) := dk_167 0 22 (dk_at dksX0_dearer_1 15 rfl rfl)
theorem dX0_dearer_42 : decode cX0_dearer 42 = .ok (.aload_n 0, 1) := dk_42 (dk_at dksX0_dearer_1 18 rfl rfl)
theorem dX0_dearer_43 : decode cX0_dearer 43 = .ok (.invokevirtual 163, 3) := dk_182 0 163 (dk_at dksX0_dearer_1 19 rfl rfl)
theorem dX0_dearer_46 : decode cX0_dearer 46 = .ok (.iload_n 1, 1) := dk_27 (dk_at dksX0_dearer_1 22 rfl rfl)
theorem dX0_dearer_47 : decode cX0_dearer 47 = .ok (.iload_n 2, 1) := dk_28 (dk_at dksX0_dearer_1 23 rfl rfl)
theorem dX0_dearer_48 : decode cX0_dearer 48 = .ok (.invokevirtual 310, 3) := dk_182 1 54 (dk_at dksX0_dearer_2 0 rfl rfl)
theorem dX0_dearer_51 : decode cX0_dearer 51 = .ok (.aload_n 0, 1) := dk_42 (dk_at dksX0_dearer_2 3 rfl rfl)
theorem dX0_dearer_52 : decode cX0_dearer 52 = .ok (.invokevirtual 163, 3) := dk_182 0 163 (dk_at dksX0_dearer_2 4 rfl rfl)
theorem dX0_dearer_55 : decode cX0_dearer 55 = .ok (.iload_n 1, 1) := dk_27 (dk_at dksX0_dearer_2 7 rfl rfl)
theorem dX0_dearer_56 : decode cX0_dearer 56 = .ok (.iload_n 3, 1) := dk_29 (dk_at dksX0_dearer_2 8 rfl rfl)
theorem dX0_dearer_57 : decode cX0_dearer 57 = .ok (.invokevirtual 310, 3) := dk_182 1 54 (dk_at dksX0_dearer_2 9 rfl rfl)
theorem dX0_dearer_60 : decode cX0_dearer 60 = .ok (.isub, 1) := dk_100 (dk_at dksX0_dearer_2 12 rfl rfl)
theorem dX0_dearer_61 : decode cX0_dearer 61 = .ok (.ireturn, 1) := dk_172 (dk_at dksX0_dearer_2 13 rfl rfl)
abbrev cX0_hardest : ByteArray := prog_1_method_45_code
def yX0_hardest : MethodName := ⟨RX0, "hardest", "(I)I"⟩
def dkwX0_hardest_3 : List UInt8 := [167, 255, 215, 42, 28, 182, 1, 40, 172]
abbrev dktX0_hardest_3 : List UInt8 := dkwX0_hardest_3 ++ []
def dkwX0_hardest_2 : List UInt8 := [29, 27, 182, 1, 54, 42, 182, 0, 163, 28, 27, 182, 1, 54, 164, 0, 5, 29, 61, 132, 3, 1]
abbrev dktX0_hardest_2 : List UInt8 := dkwX0_hardest_2 ++ dktX0_hardest_3
def dkwX0_hardest_1 : List UInt8 := [172, 2, 61, 3, 62, 29, 42, 182, 0, 163, 180, 0, 167, 162, 0, 36, 28, 155, 0, 24, 42, 182, 0, 163]
abbrev dktX0_hardest_1 : List UInt8 := dkwX0_hardest_1 ++ dktX0_hardest_2
def dkwX0_hardest_0 : List UInt8 := [42, 27, 184, 1, 51, 153, 0, 7, 3, 167, 0, 4, 4, 181, 0, 82, 42, 180, 0, 82, 158, 0, 5, 2]
abbrev dktX0_hardest_0 : List UInt8 := dkwX0_hardest_0 ++ dktX0_hardest_1
theorem dksX0_hardest_0 : cX0_hardest.data.toList.drop 0 = dktX0_hardest_0 := by decide +kernel
theorem dksX0_hardest_1 : cX0_hardest.data.toList.drop 24 = dktX0_hardest_1 := dk_seg dksX0_hardest_0 24 rfl rfl
theorem dksX0_hardest_2 : cX0_hardest.data.toList.drop 48 = dktX0_hardest_2 := dk_seg dksX0_hardest_1 24 rfl rfl
theorem dksX0_hardest_3 : cX0_hardest.data.toList.drop 70 = dktX0_hardest_3 := dk_seg dksX0_hardest_2 22 rfl rfl
theorem dX0_hardest_0 : decode cX0_hardest 0 = .ok (.aload_n 0, 1) := dk_42 (dk_at dksX0_hardest_0 0 rfl rfl)
theorem dX0_hardest_1 : decode cX0_hardest 1 = .ok (.iload_n 1, 1) := dk_27 (dk_at dksX0_hardest_0 1 rfl rfl)
theorem dX0_hardest_2 : decode cX0_hardest 2 = .ok (.invokestatic 307, 3) := dk_184 1 51 (dk_at dksX0_hardest_0 2 rfl rfl)
theorem dX0_hardest_5 : decode cX0_hardest 5 = .ok (.ifCond .eq 7, 3) := dk_153 0 7 (dk_at dksX0_hardest_0 5 rfl rfl)
theorem dX0_hardest_8 : decode cX0_hardest 8 = .ok (.iconst 0, 1) := dk_3 (dk_at dksX0_hardest_0 8 rfl rfl)
theorem dX0_hardest_9 : decode cX0_hardest 9 = .ok (.goto 4, 3) := dk_167 0 4 (dk_at dksX0_hardest_0 9 rfl rfl)
theorem dX0_hardest_12 : decode cX0_hardest 12 = .ok (.iconst 1, 1) := dk_4 (dk_at dksX0_hardest_0 12 rfl rfl)
theorem dX0_hardest_13 : decode cX0_hardest 13 = .ok (.putfield 82, 3) := dk_181 0 82 (dk_at dksX0_hardest_0 13 rfl rfl)
theorem dX0_hardest_16 : decode cX0_hardest 16 = .ok (.aload_n 0, 1) := dk_42 (dk_at dksX0_hardest_0 16 rfl rfl)
theorem dX0_hardest_17 : decode cX0_hardest 17 = .ok (.getfield 82, 3) := dk_180 0 82 (dk_at dksX0_hardest_0 17 rfl rfl)
theorem dX0_hardest_20 : decode cX0_hardest 20 = .ok (.ifCond .le 5, 3) := dk_158 0 5 (dk_at dksX0_hardest_0 20 rfl rfl)
theorem dX0_hardest_23 : decode cX0_hardest 23 = .ok (.iconst (-1), 1) := dk_2 (dk_at dksX0_hardest_0 23 rfl rfl)
theorem dX0_hardest_24 : decode cX0_hardest 24 = .ok (.ireturn, 1) := dk_172 (dk_at dksX0_hardest_1 0 rfl rfl)
theorem dX0_hardest_25 : decode cX0_hardest 25 = .ok (.iconst (-1), 1) := dk_2 (dk_at dksX0_hardest_1 1 rfl rfl)
theorem dX0_hardest_26 : decode cX0_hardest 26 = .ok (.istore_n 2, 1) := dk_61 (dk_at dksX0_hardest_1 2 rfl rfl)
theorem dX0_hardest_27 : decode cX0_hardest 27 = .ok (.iconst 0, 1) := dk_3 (dk_at dksX0_hardest_1 3 rfl rfl)
theorem dX0_hardest_28 : decode cX0_hardest 28 = .ok (.istore_n 3, 1) := dk_62 (dk_at dksX0_hardest_1 4 rfl rfl)
theorem dX0_hardest_29 : decode cX0_hardest 29 = .ok (.iload_n 3, 1) := dk_29 (dk_at dksX0_hardest_1 5 rfl rfl)
theorem dX0_hardest_30 : decode cX0_hardest 30 = .ok (.aload_n 0, 1) := dk_42 (dk_at dksX0_hardest_1 6 rfl rfl)
theorem dX0_hardest_31 : decode cX0_hardest 31 = .ok (.invokevirtual 163, 3) := dk_182 0 163 (dk_at dksX0_hardest_1 7 rfl rfl)
theorem dX0_hardest_34 : decode cX0_hardest 34 = .ok (.getfield 167, 3) := dk_180 0 167 (dk_at dksX0_hardest_1 10 rfl rfl)
theorem dX0_hardest_37 : decode cX0_hardest 37 = .ok (.if_icmp .ge 36, 3) := dk_162 0 36 (dk_at dksX0_hardest_1 13 rfl rfl)
theorem dX0_hardest_40 : decode cX0_hardest 40 = .ok (.iload_n 2, 1) := dk_28 (dk_at dksX0_hardest_1 16 rfl rfl)
theorem dX0_hardest_41 : decode cX0_hardest 41 = .ok (.ifCond .lt 24, 3) := dk_155 0 24 (dk_at dksX0_hardest_1 17 rfl rfl)
theorem dX0_hardest_44 : decode cX0_hardest 44 = .ok (.aload_n 0, 1) := dk_42 (dk_at dksX0_hardest_1 20 rfl rfl)
theorem dX0_hardest_45 : decode cX0_hardest 45 = .ok (.invokevirtual 163, 3) := dk_182 0 163 (dk_at dksX0_hardest_1 21 rfl rfl)
theorem dX0_hardest_48 : decode cX0_hardest 48 = .ok (.iload_n 3, 1) := dk_29 (dk_at dksX0_hardest_2 0 rfl rfl)
theorem dX0_hardest_49 : decode cX0_hardest 49 = .ok (.iload_n 1, 1) := dk_27 (dk_at dksX0_hardest_2 1 rfl rfl)
theorem dX0_hardest_50 : decode cX0_hardest 50 = .ok (.invokevirtual 310, 3) := dk_182 1 54 (dk_at dksX0_hardest_2 2 rfl rfl)
theorem dX0_hardest_53 : decode cX0_hardest 53 = .ok (.aload_n 0, 1) := dk_42 (dk_at dksX0_hardest_2 5 rfl rfl)
theorem dX0_hardest_54 : decode cX0_hardest 54 = .ok (.invokevirtual 163, 3) := dk_182 0 163 (dk_at dksX0_hardest_2 6 rfl rfl)
theorem dX0_hardest_57 : decode cX0_hardest 57 = .ok (.iload_n 2, 1) := dk_28 (dk_at dksX0_hardest_2 9 rfl rfl)
theorem dX0_hardest_58 : decode cX0_hardest 58 = .ok (.iload_n 1, 1) := dk_27 (dk_at dksX0_hardest_2 10 rfl rfl)
theorem dX0_hardest_59 : decode cX0_hardest 59 = .ok (.invokevirtual 310, 3) := dk_182 1 54 (dk_at dksX0_hardest_2 11 rfl rfl)
theorem dX0_hardest_62 : decode cX0_hardest 62 = .ok (.if_icmp .le 5, 3) := dk_164 0 5 (dk_at dksX0_hardest_2 14 rfl rfl)
theorem dX0_hardest_65 : decode cX0_hardest 65 = .ok (.iload_n 3, 1) := dk_29 (dk_at dksX0_hardest_2 17 rfl rfl)
theorem dX0_hardest_66 : decode cX0_hardest 66 = .ok (.istore_n 2, 1) := dk_61 (dk_at dksX0_hardest_2 18 rfl rfl)
theorem dX0_hardest_67 : decode cX0_hardest 67 = .ok (.iinc 3 1, 3) := dk_132 3 1 (dk_at dksX0_hardest_2 19 rfl rfl)
theorem dX0_hardest_70 : decode cX0_hardest 70 = .ok (.goto (-41), 3) := dk_167 255 215 (dk_at dksX0_hardest_3 0 rfl rfl)
theorem dX0_hardest_73 : decode cX0_hardest 73 = .ok (.aload_n 0, 1) := dk_42 (dk_at dksX0_hardest_3 3 rfl rfl)
theorem dX0_hardest_74 : decode cX0_hardest 74 = .ok (.iload_n 2, 1) := dk_28 (dk_at dksX0_hardest_3 4 rfl rfl)
theorem dX0_hardest_75 : decode cX0_hardest 75 = .ok (.invokevirtual 296, 3) := dk_182 1 40 (dk_at dksX0_hardest_3 5 rfl rfl)
theorem dX0_hardest_78 : decode cX0_hardest 78 = .ok (.ireturn, 1) := dk_172 (dk_at dksX0_hardest_3 8 rfl rfl)
abbrev cX0_order : ByteArray := prog_1_method_46_code
def yX0_order : MethodName := ⟨RX0, "order", "(II)I"⟩
def dkwX0_order_3 : List UInt8 := [182, 0, 163, 180, 0, 236, 172]
abbrev dktX0_order_3 : List UInt8 := dkwX0_order_3 ++ []
def dkwX0_order_2 : List UInt8 := [181, 0, 82, 42, 180, 0, 82, 158, 0, 5, 2, 172, 42, 182, 0, 163, 27, 28, 182, 1, 65, 42]
abbrev dktX0_order_2 : List UInt8 := dkwX0_order_2 ++ dktX0_order_3
def dkwX0_order_1 : List UInt8 := [154, 0, 7, 4, 167, 0, 20, 42, 182, 0, 163, 180, 0, 236, 16, 16, 160, 0, 7, 7, 167, 0, 4, 3]
abbrev dktX0_order_1 : List UInt8 := dkwX0_order_1 ++ dktX0_order_2
def dkwX0_order_0 : List UInt8 := [42, 27, 133, 10, 20, 1, 63, 184, 0, 170, 153, 0, 16, 28, 2, 159, 0, 15, 42, 28, 182, 0, 174]
abbrev dktX0_order_0 : List UInt8 := dkwX0_order_0 ++ dktX0_order_1
theorem dksX0_order_0 : cX0_order.data.toList.drop 0 = dktX0_order_0 := by decide +kernel
theorem dksX0_order_1 : cX0_order.data.toList.drop 23 = dktX0_order_1 := dk_seg dksX0_order_0 23 rfl rfl
theorem dksX0_order_2 : cX0_order.data.toList.drop 47 = dktX0_order_2 := dk_seg dksX0_order_1 24 rfl rfl
theorem dksX0_order_3 : cX0_order.data.toList.drop 69 = dktX0_order_3 := dk_seg dksX0_order_2 22 rfl rfl
theorem dX0_order_0 : decode cX0_order 0 = .ok (.aload_n 0, 1) := dk_42 (dk_at dksX0_order_0 0 rfl rfl)
theorem dX0_order_1 : decode cX0_order 1 = .ok (.iload_n 1, 1) := dk_27 (dk_at dksX0_order_0 1 rfl rfl)
theorem dX0_order_2 : decode cX0_order 2 = .ok (.i2l, 1) := dk_133 (dk_at dksX0_order_0 2 rfl rfl)
theorem dX0_order_3 : decode cX0_order 3 = .ok (.lconst 1, 1) := dk_10 (dk_at dksX0_order_0 3 rfl rfl)
theorem dX0_order_4 : decode cX0_order 4 = .ok (.ldc2_w 319, 3) := dk_20 1 63 (dk_at dksX0_order_0 4 rfl rfl)
theorem dX0_order_7 : decode cX0_order 7 = .ok (.invokestatic 170, 3) := dk_184 0 170 (dk_at dksX0_order_0 7 rfl rfl)
theorem dX0_order_10 : decode cX0_order 10 = .ok (.ifCond .eq 16, 3) := dk_153 0 16 (dk_at dksX0_order_0 10 rfl rfl)
theorem dX0_order_13 : decode cX0_order 13 = .ok (.iload_n 2, 1) := dk_28 (dk_at dksX0_order_0 13 rfl rfl)
theorem dX0_order_14 : decode cX0_order 14 = .ok (.iconst (-1), 1) := dk_2 (dk_at dksX0_order_0 14 rfl rfl)
theorem dX0_order_15 : decode cX0_order 15 = .ok (.if_icmp .eq 15, 3) := dk_159 0 15 (dk_at dksX0_order_0 15 rfl rfl)
theorem dX0_order_18 : decode cX0_order 18 = .ok (.aload_n 0, 1) := dk_42 (dk_at dksX0_order_0 18 rfl rfl)
theorem dX0_order_19 : decode cX0_order 19 = .ok (.iload_n 2, 1) := dk_28 (dk_at dksX0_order_0 19 rfl rfl)
theorem dX0_order_20 : decode cX0_order 20 = .ok (.invokevirtual 174, 3) := dk_182 0 174 (dk_at dksX0_order_0 20 rfl rfl)
theorem dX0_order_23 : decode cX0_order 23 = .ok (.ifCond .ne 7, 3) := dk_154 0 7 (dk_at dksX0_order_1 0 rfl rfl)
theorem dX0_order_26 : decode cX0_order 26 = .ok (.iconst 1, 1) := dk_4 (dk_at dksX0_order_1 3 rfl rfl)
theorem dX0_order_27 : decode cX0_order 27 = .ok (.goto 20, 3) := dk_167 0 20 (dk_at dksX0_order_1 4 rfl rfl)
theorem dX0_order_30 : decode cX0_order 30 = .ok (.aload_n 0, 1) := dk_42 (dk_at dksX0_order_1 7 rfl rfl)
theorem dX0_order_31 : decode cX0_order 31 = .ok (.invokevirtual 163, 3) := dk_182 0 163 (dk_at dksX0_order_1 8 rfl rfl)
theorem dX0_order_34 : decode cX0_order 34 = .ok (.getfield 236, 3) := dk_180 0 236 (dk_at dksX0_order_1 11 rfl rfl)
theorem dX0_order_37 : decode cX0_order 37 = .ok (.bipush 16, 2) := dk_16 16 (dk_at dksX0_order_1 14 rfl rfl)
theorem dX0_order_39 : decode cX0_order 39 = .ok (.if_icmp .ne 7, 3) := dk_160 0 7 (dk_at dksX0_order_1 16 rfl rfl)
theorem dX0_order_42 : decode cX0_order 42 = .ok (.iconst 4, 1) := dk_7 (dk_at dksX0_order_1 19 rfl rfl)
theorem dX0_order_43 : decode cX0_order 43 = .ok (.goto 4, 3) := dk_167 0 4 (dk_at dksX0_order_1 20 rfl rfl)
theorem dX0_order_46 : decode cX0_order 46 = .ok (.iconst 0, 1) := dk_3 (dk_at dksX0_order_1 23 rfl rfl)
theorem dX0_order_47 : decode cX0_order 47 = .ok (.putfield 82, 3) := dk_181 0 82 (dk_at dksX0_order_2 0 rfl rfl)
theorem dX0_order_50 : decode cX0_order 50 = .ok (.aload_n 0, 1) := dk_42 (dk_at dksX0_order_2 3 rfl rfl)
theorem dX0_order_51 : decode cX0_order 51 = .ok (.getfield 82, 3) := dk_180 0 82 (dk_at dksX0_order_2 4 rfl rfl)
theorem dX0_order_54 : decode cX0_order 54 = .ok (.ifCond .le 5, 3) := dk_158 0 5 (dk_at dksX0_order_2 7 rfl rfl)
theorem dX0_order_57 : decode cX0_order 57 = .ok (.iconst (-1), 1) := dk_2 (dk_at dksX0_order_2 10 rfl rfl)
theorem dX0_order_58 : decode cX0_order 58 = .ok (.ireturn, 1) := dk_172 (dk_at dksX0_order_2 11 rfl rfl)
theorem dX0_order_59 : decode cX0_order 59 = .ok (.aload_n 0, 1) := dk_42 (dk_at dksX0_order_2 12 rfl rfl)
theorem dX0_order_60 : decode cX0_order 60 = .ok (.invokevirtual 163, 3) := dk_182 0 163 (dk_at dksX0_order_2 13 rfl rfl)
theorem dX0_order_63 : decode cX0_order 63 = .ok (.iload_n 1, 1) := dk_27 (dk_at dksX0_order_2 16 rfl rfl)
theorem dX0_order_64 : decode cX0_order 64 = .ok (.iload_n 2, 1) := dk_28 (dk_at dksX0_order_2 17 rfl rfl)
theorem dX0_order_65 : decode cX0_order 65 = .ok (.invokevirtual 321, 3) := dk_182 1 65 (dk_at dksX0_order_2 18 rfl rfl)
theorem dX0_order_68 : decode cX0_order 68 = .ok (.aload_n 0, 1) := dk_42 (dk_at dksX0_order_2 21 rfl rfl)
theorem dX0_order_69 : decode cX0_order 69 = .ok (.invokevirtual 163, 3) := dk_182 0 163 (dk_at dksX0_order_3 0 rfl rfl)
theorem dX0_order_72 : decode cX0_order 72 = .ok (.getfield 236, 3) := dk_180 0 236 (dk_at dksX0_order_3 3 rfl rfl)
theorem dX0_order_75 : decode cX0_order 75 = .ok (.ireturn, 1) := dk_172 (dk_at dksX0_order_3 6 rfl rfl)
abbrev cX0_strike : ByteArray := prog_1_method_47_code
def yX0_strike : MethodName := ⟨RX0, "strike", "()I"⟩
def dkwX0_strike_2 : List UInt8 := [180, 1, 43, 42, 182, 0, 163, 180, 0, 236, 46, 172]
abbrev dktX0_strike_2 : List UInt8 := dkwX0_strike_2 ++ []
def dkwX0_strike_1 : List UInt8 := [158, 0, 5, 2, 172, 42, 182, 0, 163, 89, 180, 0, 236, 4, 100, 181, 0, 236, 42, 182, 0, 163]
abbrev dktX0_strike_1 : List UInt8 := dkwX0_strike_1 ++ dktX0_strike_2
def dkwX0_strike_0 : List UInt8 := [42, 42, 182, 0, 163, 180, 0, 236, 154, 0, 8, 16, 6, 167, 0, 4, 3, 181, 0, 82, 42, 180, 0, 82]
abbrev dktX0_strike_0 : List UInt8 := dkwX0_strike_0 ++ dktX0_strike_1
theorem dksX0_strike_0 : cX0_strike.data.toList.drop 0 = dktX0_strike_0 := by decide +kernel
theorem dksX0_strike_1 : cX0_strike.data.toList.drop 24 = dktX0_strike_1 := dk_seg dksX0_strike_0 24 rfl rfl
theorem dksX0_strike_2 : cX0_strike.data.toList.drop 46 = dktX0_strike_2 := dk_seg dksX0_strike_1 22 rfl rfl
theorem dX0_strike_0 : decode cX0_strike 0 = .ok (.aload_n 0, 1) := dk_42 (dk_at dksX0_strike_0 0 rfl rfl)
theorem dX0_strike_1 : decode cX0_strike 1 = .ok (.aload_n 0, 1) := dk_42 (dk_at dksX0_strike_0 1 rfl rfl)
theorem dX0_strike_2 : decode cX0_strike 2 = .ok (.invokevirtual 163, 3) := dk_182 0 163 (dk_at dksX0_strike_0 2 rfl rfl)
theorem dX0_strike_5 : decode cX0_strike 5 = .ok (.getfield 236, 3) := dk_180 0 236 (dk_at dksX0_strike_0 5 rfl rfl)
theorem dX0_strike_8 : decode cX0_strike 8 = .ok (.ifCond .ne 8, 3) := dk_154 0 8 (dk_at dksX0_strike_0 8 rfl rfl)
theorem dX0_strike_11 : decode cX0_strike 11 = .ok (.bipush 6, 2) := dk_16 6 (dk_at dksX0_strike_0 11 rfl rfl)
theorem dX0_strike_13 : decode cX0_strike 13 = .ok (.goto 4, 3) := dk_167 0 4 (dk_at dksX0_strike_0 13 rfl rfl)
theorem dX0_strike_16 : decode cX0_strike 16 = .ok (.iconst 0, 1) := dk_3 (dk_at dksX0_strike_0 16 rfl rfl)
theorem dX0_strike_17 : decode cX0_strike 17 = .ok (.putfield 82, 3) := dk_181 0 82 (dk_at dksX0_strike_0 17 rfl rfl)
theorem dX0_strike_20 : decode cX0_strike 20 = .ok (.aload_n 0, 1) := dk_42 (dk_at dksX0_strike_0 20 rfl rfl)
theorem dX0_strike_21 : decode cX0_strike 21 = .ok (.getfield 82, 3) := dk_180 0 82 (dk_at dksX0_strike_0 21 rfl rfl)
theorem dX0_strike_24 : decode cX0_strike 24 = .ok (.ifCond .le 5, 3) := dk_158 0 5 (dk_at dksX0_strike_1 0 rfl rfl)
theorem dX0_strike_27 : decode cX0_strike 27 = .ok (.iconst (-1), 1) := dk_2 (dk_at dksX0_strike_1 3 rfl rfl)
theorem dX0_strike_28 : decode cX0_strike 28 = .ok (.ireturn, 1) := dk_172 (dk_at dksX0_strike_1 4 rfl rfl)
theorem dX0_strike_29 : decode cX0_strike 29 = .ok (.aload_n 0, 1) := dk_42 (dk_at dksX0_strike_1 5 rfl rfl)
theorem dX0_strike_30 : decode cX0_strike 30 = .ok (.invokevirtual 163, 3) := dk_182 0 163 (dk_at dksX0_strike_1 6 rfl rfl)
theorem dX0_strike_33 : decode cX0_strike 33 = .ok (.dup, 1) := dk_89 (dk_at dksX0_strike_1 9 rfl rfl)
theorem dX0_strike_34 : decode cX0_strike 34 = .ok (.getfield 236, 3) := dk_180 0 236 (dk_at dksX0_strike_1 10 rfl rfl)
theorem dX0_strike_37 : decode cX0_strike 37 = .ok (.iconst 1, 1) := dk_4 (dk_at dksX0_strike_1 13 rfl rfl)
theorem dX0_strike_38 : decode cX0_strike 38 = .ok (.isub, 1) := dk_100 (dk_at dksX0_strike_1 14 rfl rfl)
theorem dX0_strike_39 : decode cX0_strike 39 = .ok (.putfield 236, 3) := dk_181 0 236 (dk_at dksX0_strike_1 15 rfl rfl)
theorem dX0_strike_42 : decode cX0_strike 42 = .ok (.aload_n 0, 1) := dk_42 (dk_at dksX0_strike_1 18 rfl rfl)
theorem dX0_strike_43 : decode cX0_strike 43 = .ok (.invokevirtual 163, 3) := dk_182 0 163 (dk_at dksX0_strike_1 19 rfl rfl)
theorem dX0_strike_46 : decode cX0_strike 46 = .ok (.getfield 299, 3) := dk_180 1 43 (dk_at dksX0_strike_2 0 rfl rfl)
theorem dX0_strike_49 : decode cX0_strike 49 = .ok (.aload_n 0, 1) := dk_42 (dk_at dksX0_strike_2 3 rfl rfl)
theorem dX0_strike_50 : decode cX0_strike 50 = .ok (.invokevirtual 163, 3) := dk_182 0 163 (dk_at dksX0_strike_2 4 rfl rfl)
theorem dX0_strike_53 : decode cX0_strike 53 = .ok (.getfield 236, 3) := dk_180 0 236 (dk_at dksX0_strike_2 7 rfl rfl)
theorem dX0_strike_56 : decode cX0_strike 56 = .ok (.iaload, 1) := dk_46 (dk_at dksX0_strike_2 10 rfl rfl)
theorem dX0_strike_57 : decode cX0_strike 57 = .ok (.ireturn, 1) := dk_172 (dk_at dksX0_strike_2 11 rfl rfl)
abbrev cX0_split : ByteArray := prog_1_method_48_code
def yX0_split : MethodName := ⟨RX0, "split", "(I)Z"⟩
def dkwX0_split_1 : List UInt8 := [182, 0, 163, 27, 181, 0, 239, 42, 180, 0, 82, 154, 0, 7, 4, 167, 0, 4, 3, 172]
abbrev dktX0_split_1 : List UInt8 := dkwX0_split_1 ++ []
def dkwX0_split_0 : List UInt8 := [42, 27, 184, 1, 51, 153, 0, 7, 3, 167, 0, 4, 4, 181, 0, 82, 42, 180, 0, 82, 154, 0, 11, 42]
abbrev dktX0_split_0 : List UInt8 := dkwX0_split_0 ++ dktX0_split_1
theorem dksX0_split_0 : cX0_split.data.toList.drop 0 = dktX0_split_0 := by decide +kernel
theorem dksX0_split_1 : cX0_split.data.toList.drop 24 = dktX0_split_1 := dk_seg dksX0_split_0 24 rfl rfl
theorem dX0_split_0 : decode cX0_split 0 = .ok (.aload_n 0, 1) := dk_42 (dk_at dksX0_split_0 0 rfl rfl)
theorem dX0_split_1 : decode cX0_split 1 = .ok (.iload_n 1, 1) := dk_27 (dk_at dksX0_split_0 1 rfl rfl)
theorem dX0_split_2 : decode cX0_split 2 = .ok (.invokestatic 307, 3) := dk_184 1 51 (dk_at dksX0_split_0 2 rfl rfl)
theorem dX0_split_5 : decode cX0_split 5 = .ok (.ifCond .eq 7, 3) := dk_153 0 7 (dk_at dksX0_split_0 5 rfl rfl)
theorem dX0_split_8 : decode cX0_split 8 = .ok (.iconst 0, 1) := dk_3 (dk_at dksX0_split_0 8 rfl rfl)
theorem dX0_split_9 : decode cX0_split 9 = .ok (.goto 4, 3) := dk_167 0 4 (dk_at dksX0_split_0 9 rfl rfl)
theorem dX0_split_12 : decode cX0_split 12 = .ok (.iconst 1, 1) := dk_4 (dk_at dksX0_split_0 12 rfl rfl)
theorem dX0_split_13 : decode cX0_split 13 = .ok (.putfield 82, 3) := dk_181 0 82 (dk_at dksX0_split_0 13 rfl rfl)
theorem dX0_split_16 : decode cX0_split 16 = .ok (.aload_n 0, 1) := dk_42 (dk_at dksX0_split_0 16 rfl rfl)
theorem dX0_split_17 : decode cX0_split 17 = .ok (.getfield 82, 3) := dk_180 0 82 (dk_at dksX0_split_0 17 rfl rfl)
theorem dX0_split_20 : decode cX0_split 20 = .ok (.ifCond .ne 11, 3) := dk_154 0 11 (dk_at dksX0_split_0 20 rfl rfl)
theorem dX0_split_23 : decode cX0_split 23 = .ok (.aload_n 0, 1) := dk_42 (dk_at dksX0_split_0 23 rfl rfl)
theorem dX0_split_24 : decode cX0_split 24 = .ok (.invokevirtual 163, 3) := dk_182 0 163 (dk_at dksX0_split_1 0 rfl rfl)
theorem dX0_split_27 : decode cX0_split 27 = .ok (.iload_n 1, 1) := dk_27 (dk_at dksX0_split_1 3 rfl rfl)
theorem dX0_split_28 : decode cX0_split 28 = .ok (.putfield 239, 3) := dk_181 0 239 (dk_at dksX0_split_1 4 rfl rfl)
theorem dX0_split_31 : decode cX0_split 31 = .ok (.aload_n 0, 1) := dk_42 (dk_at dksX0_split_1 7 rfl rfl)
theorem dX0_split_32 : decode cX0_split 32 = .ok (.getfield 82, 3) := dk_180 0 82 (dk_at dksX0_split_1 8 rfl rfl)
theorem dX0_split_35 : decode cX0_split 35 = .ok (.ifCond .ne 7, 3) := dk_154 0 7 (dk_at dksX0_split_1 11 rfl rfl)
theorem dX0_split_38 : decode cX0_split 38 = .ok (.iconst 1, 1) := dk_4 (dk_at dksX0_split_1 14 rfl rfl)
theorem dX0_split_39 : decode cX0_split 39 = .ok (.goto 4, 3) := dk_167 0 4 (dk_at dksX0_split_1 15 rfl rfl)
theorem dX0_split_42 : decode cX0_split 42 = .ok (.iconst 0, 1) := dk_3 (dk_at dksX0_split_1 18 rfl rfl)
theorem dX0_split_43 : decode cX0_split 43 = .ok (.ireturn, 1) := dk_172 (dk_at dksX0_split_1 19 rfl rfl)
abbrev cX0_law : ByteArray := prog_1_method_49_code
def yX0_law : MethodName := ⟨RX0, "law", "(I)Z"⟩
def dkwX0_law_1 : List UInt8 := [182, 0, 163, 27, 181, 0, 242, 42, 180, 0, 82, 154, 0, 7, 4, 167, 0, 4, 3, 172]
abbrev dktX0_law_1 : List UInt8 := dkwX0_law_1 ++ []
def dkwX0_law_0 : List UInt8 := [42, 27, 184, 1, 69, 153, 0, 7, 3, 167, 0, 4, 4, 181, 0, 82, 42, 180, 0, 82, 154, 0, 11, 42]
abbrev dktX0_law_0 : List UInt8 := dkwX0_law_0 ++ dktX0_law_1
theorem dksX0_law_0 : cX0_law.data.toList.drop 0 = dktX0_law_0 := by decide +kernel
theorem dksX0_law_1 : cX0_law.data.toList.drop 24 = dktX0_law_1 := dk_seg dksX0_law_0 24 rfl rfl
theorem dX0_law_0 : decode cX0_law 0 = .ok (.aload_n 0, 1) := dk_42 (dk_at dksX0_law_0 0 rfl rfl)
theorem dX0_law_1 : decode cX0_law 1 = .ok (.iload_n 1, 1) := dk_27 (dk_at dksX0_law_0 1 rfl rfl)
theorem dX0_law_2 : decode cX0_law 2 = .ok (.invokestatic 325, 3) := dk_184 1 69 (dk_at dksX0_law_0 2 rfl rfl)
theorem dX0_law_5 : decode cX0_law 5 = .ok (.ifCond .eq 7, 3) := dk_153 0 7 (dk_at dksX0_law_0 5 rfl rfl)
theorem dX0_law_8 : decode cX0_law 8 = .ok (.iconst 0, 1) := dk_3 (dk_at dksX0_law_0 8 rfl rfl)
theorem dX0_law_9 : decode cX0_law 9 = .ok (.goto 4, 3) := dk_167 0 4 (dk_at dksX0_law_0 9 rfl rfl)
theorem dX0_law_12 : decode cX0_law 12 = .ok (.iconst 1, 1) := dk_4 (dk_at dksX0_law_0 12 rfl rfl)
theorem dX0_law_13 : decode cX0_law 13 = .ok (.putfield 82, 3) := dk_181 0 82 (dk_at dksX0_law_0 13 rfl rfl)
theorem dX0_law_16 : decode cX0_law 16 = .ok (.aload_n 0, 1) := dk_42 (dk_at dksX0_law_0 16 rfl rfl)
theorem dX0_law_17 : decode cX0_law 17 = .ok (.getfield 82, 3) := dk_180 0 82 (dk_at dksX0_law_0 17 rfl rfl)
theorem dX0_law_20 : decode cX0_law 20 = .ok (.ifCond .ne 11, 3) := dk_154 0 11 (dk_at dksX0_law_0 20 rfl rfl)
theorem dX0_law_23 : decode cX0_law 23 = .ok (.aload_n 0, 1) := dk_42 (dk_at dksX0_law_0 23 rfl rfl)
theorem dX0_law_24 : decode cX0_law 24 = .ok (.invokevirtual 163, 3) := dk_182 0 163 (dk_at dksX0_law_1 0 rfl rfl)
theorem dX0_law_27 : decode cX0_law 27 = .ok (.iload_n 1, 1) := dk_27 (dk_at dksX0_law_1 3 rfl rfl)
theorem dX0_law_28 : decode cX0_law 28 = .ok (.putfield 242, 3) := dk_181 0 242 (dk_at dksX0_law_1 4 rfl rfl)
theorem dX0_law_31 : decode cX0_law 31 = .ok (.aload_n 0, 1) := dk_42 (dk_at dksX0_law_1 7 rfl rfl)
theorem dX0_law_32 : decode cX0_law 32 = .ok (.getfield 82, 3) := dk_180 0 82 (dk_at dksX0_law_1 8 rfl rfl)
theorem dX0_law_35 : decode cX0_law 35 = .ok (.ifCond .ne 7, 3) := dk_154 0 7 (dk_at dksX0_law_1 11 rfl rfl)
theorem dX0_law_38 : decode cX0_law 38 = .ok (.iconst 1, 1) := dk_4 (dk_at dksX0_law_1 14 rfl rfl)
theorem dX0_law_39 : decode cX0_law 39 = .ok (.goto 4, 3) := dk_167 0 4 (dk_at dksX0_law_1 15 rfl rfl)
theorem dX0_law_42 : decode cX0_law 42 = .ok (.iconst 0, 1) := dk_3 (dk_at dksX0_law_1 18 rfl rfl)
theorem dX0_law_43 : decode cX0_law 43 = .ok (.ireturn, 1) := dk_172 (dk_at dksX0_law_1 19 rfl rfl)
abbrev cX0_isLaw : ByteArray := prog_1_method_25_code
def yX0_isLaw : MethodName := ⟨RX0, "isLaw", "(I)Z"⟩
def dkwX0_isLaw_0 : List UInt8 := [26, 133, 9, 20, 0, 180, 184, 0, 170, 172]
abbrev dktX0_isLaw_0 : List UInt8 := dkwX0_isLaw_0 ++ []
theorem dksX0_isLaw_0 : cX0_isLaw.data.toList.drop 0 = dktX0_isLaw_0 := by decide +kernel
theorem dX0_isLaw_0 : decode cX0_isLaw 0 = .ok (.iload_n 0, 1) := dk_26 (dk_at dksX0_isLaw_0 0 rfl rfl)
theorem dX0_isLaw_1 : decode cX0_isLaw 1 = .ok (.i2l, 1) := dk_133 (dk_at dksX0_isLaw_0 1 rfl rfl)
theorem dX0_isLaw_2 : decode cX0_isLaw 2 = .ok (.lconst 0, 1) := dk_9 (dk_at dksX0_isLaw_0 2 rfl rfl)
theorem dX0_isLaw_3 : decode cX0_isLaw 3 = .ok (.ldc2_w 180, 3) := dk_20 0 180 (dk_at dksX0_isLaw_0 3 rfl rfl)
theorem dX0_isLaw_6 : decode cX0_isLaw 6 = .ok (.invokestatic 170, 3) := dk_184 0 170 (dk_at dksX0_isLaw_0 6 rfl rfl)
theorem dX0_isLaw_9 : decode cX0_isLaw 9 = .ok (.ireturn, 1) := dk_172 (dk_at dksX0_isLaw_0 9 rfl rfl)
abbrev cX0_second : ByteArray := prog_1_method_51_code
def yX0_second : MethodName := ⟨RX0, "second", "(II)I"⟩
def dkwX0_second_4 : List UInt8 := [167, 0, 7, 42, 180, 1, 78, 182, 1, 40, 172]
abbrev dktX0_second_4 : List UInt8 := dkwX0_second_4 ++ []
def dkwX0_second_3 : List UInt8 := [167, 0, 30, 28, 154, 0, 10, 42, 180, 1, 75, 167, 0, 19, 28, 4, 160, 0, 10, 42, 180, 1, 72]
abbrev dktX0_second_3 : List UInt8 := dkwX0_second_3 ++ dktX0_second_4
def dkwX0_second_2 : List UInt8 := [181, 1, 72, 42, 2, 181, 1, 75, 42, 27, 3, 3, 182, 1, 81, 42, 42, 180, 1, 75, 156, 0, 7, 2]
abbrev dktX0_second_2 : List UInt8 := dkwX0_second_2 ++ dktX0_second_3
def dkwX0_second_1 : List UInt8 := [153, 0, 7, 3, 167, 0, 4, 4, 181, 0, 82, 42, 180, 0, 82, 158, 0, 5, 2, 172, 42, 3]
abbrev dktX0_second_1 : List UInt8 := dkwX0_second_1 ++ dktX0_second_2
def dkwX0_second_0 : List UInt8 := [42, 27, 133, 10, 20, 1, 85, 184, 0, 170, 153, 0, 19, 28, 133, 9, 20, 0, 178, 184, 0, 170]
abbrev dktX0_second_0 : List UInt8 := dkwX0_second_0 ++ dktX0_second_1
theorem dksX0_second_0 : cX0_second.data.toList.drop 0 = dktX0_second_0 := by decide +kernel
theorem dksX0_second_1 : cX0_second.data.toList.drop 22 = dktX0_second_1 := dk_seg dksX0_second_0 22 rfl rfl
theorem dksX0_second_2 : cX0_second.data.toList.drop 44 = dktX0_second_2 := dk_seg dksX0_second_1 22 rfl rfl
theorem dksX0_second_3 : cX0_second.data.toList.drop 68 = dktX0_second_3 := dk_seg dksX0_second_2 24 rfl rfl
theorem dksX0_second_4 : cX0_second.data.toList.drop 91 = dktX0_second_4 := dk_seg dksX0_second_3 23 rfl rfl
theorem dX0_second_0 : decode cX0_second 0 = .ok (.aload_n 0, 1) := dk_42 (dk_at dksX0_second_0 0 rfl rfl)
theorem dX0_second_1 : decode cX0_second 1 = .ok (.iload_n 1, 1) := dk_27 (dk_at dksX0_second_0 1 rfl rfl)
theorem dX0_second_2 : decode cX0_second 2 = .ok (.i2l, 1) := dk_133 (dk_at dksX0_second_0 2 rfl rfl)
theorem dX0_second_3 : decode cX0_second 3 = .ok (.lconst 1, 1) := dk_10 (dk_at dksX0_second_0 3 rfl rfl)
theorem dX0_second_4 : decode cX0_second 4 = .ok (.ldc2_w 341, 3) := dk_20 1 85 (dk_at dksX0_second_0 4 rfl rfl)
theorem dX0_second_7 : decode cX0_second 7 = .ok (.invokestatic 170, 3) := dk_184 0 170 (dk_at dksX0_second_0 7 rfl rfl)
theorem dX0_second_10 : decode cX0_second 10 = .ok (.ifCond .eq 19, 3) := dk_153 0 19 (dk_at dksX0_second_0 10 rfl rfl)
theorem dX0_second_13 : decode cX0_second 13 = .ok (.iload_n 2, 1) := dk_28 (dk_at dksX0_second_0 13 rfl rfl)
theorem dX0_second_14 : decode cX0_second 14 = .ok (.i2l, 1) := dk_133 (dk_at dksX0_second_0 14 rfl rfl)
theorem dX0_second_15 : decode cX0_second 15 = .ok (.lconst 0, 1) := dk_9 (dk_at dksX0_second_0 15 rfl rfl)
theorem dX0_second_16 : decode cX0_second 16 = .ok (.ldc2_w 178, 3) := dk_20 0 178 (dk_at dksX0_second_0 16 rfl rfl)
theorem dX0_second_19 : decode cX0_second 19 = .ok (.invokestatic 170, 3) := dk_184 0 170 (dk_at dksX0_second_0 19 rfl rfl)
theorem dX0_second_22 : decode cX0_second 22 = .ok (.ifCond .eq 7, 3) := dk_153 0 7 (dk_at dksX0_second_1 0 rfl rfl)
theorem dX0_second_25 : decode cX0_second 25 = .ok (.iconst 0, 1) := dk_3 (dk_at dksX0_second_1 3 rfl rfl)
theorem dX0_second_26 : decode cX0_second 26 = .ok (.goto 4, 3) := dk_167 0 4 (dk_at dksX0_second_1 4 rfl rfl)
theorem dX0_second_29 : decode cX0_second 29 = .ok (.iconst 1, 1) := dk_4 (dk_at dksX0_second_1 7 rfl rfl)
theorem dX0_second_30 : decode cX0_second 30 = .ok (.putfield 82, 3) := dk_181 0 82 (dk_at dksX0_second_1 8 rfl rfl)
theorem dX0_second_33 : decode cX0_second 33 = .ok (.aload_n 0, 1) := dk_42 (dk_at dksX0_second_1 11 rfl rfl)
theorem dX0_second_34 : decode cX0_second 34 = .ok (.getfield 82, 3) := dk_180 0 82 (dk_at dksX0_second_1 12 rfl rfl)
theorem dX0_second_37 : decode cX0_second 37 = .ok (.ifCond .le 5, 3) := dk_158 0 5 (dk_at dksX0_second_1 15 rfl rfl)
theorem dX0_second_40 : decode cX0_second 40 = .ok (.iconst (-1), 1) := dk_2 (dk_at dksX0_second_1 18 rfl rfl)
theorem dX0_second_41 : decode cX0_second 41 = .ok (.ireturn, 1) := dk_172 (dk_at dksX0_second_1 19 rfl rfl)
theorem dX0_second_42 : decode cX0_second 42 = .ok (.aload_n 0, 1) := dk_42 (dk_at dksX0_second_1 20 rfl rfl)
theorem dX0_second_43 : decode cX0_second 43 = .ok (.iconst 0, 1) := dk_3 (dk_at dksX0_second_1 21 rfl rfl)
theorem dX0_second_44 : decode cX0_second 44 = .ok (.putfield 328, 3) := dk_181 1 72 (dk_at dksX0_second_2 0 rfl rfl)
theorem dX0_second_47 : decode cX0_second 47 = .ok (.aload_n 0, 1) := dk_42 (dk_at dksX0_second_2 3 rfl rfl)
theorem dX0_second_48 : decode cX0_second 48 = .ok (.iconst (-1), 1) := dk_2 (dk_at dksX0_second_2 4 rfl rfl)
theorem dX0_second_49 : decode cX0_second 49 = .ok (.putfield 331, 3) := dk_181 1 75 (dk_at dksX0_second_2 5 rfl rfl)
theorem dX0_second_52 : decode cX0_second 52 = .ok (.aload_n 0, 1) := dk_42 (dk_at dksX0_second_2 8 rfl rfl)
theorem dX0_second_53 : decode cX0_second 53 = .ok (.iload_n 1, 1) := dk_27 (dk_at dksX0_second_2 9 rfl rfl)
theorem dX0_second_54 : decode cX0_second 54 = .ok (.iconst 0, 1) := dk_3 (dk_at dksX0_second_2 10 rfl rfl)
theorem dX0_second_55 : decode cX0_second 55 = .ok (.iconst 0, 1) := dk_3 (dk_at dksX0_second_2 11 rfl rfl)
theorem dX0_second_56 : decode cX0_second 56 = .ok (.invokevirtual 337, 3) := dk_182 1 81 (dk_at dksX0_second_2 12 rfl rfl)
theorem dX0_second_59 : decode cX0_second 59 = .ok (.aload_n 0, 1) := dk_42 (dk_at dksX0_second_2 15 rfl rfl)
theorem dX0_second_60 : decode cX0_second 60 = .ok (.aload_n 0, 1) := dk_42 (dk_at dksX0_second_2 16 rfl rfl)
theorem dX0_second_61 : decode cX0_second 61 = .ok (.getfield 331, 3) := dk_180 1 75 (dk_at dksX0_second_2 17 rfl rfl)
theorem dX0_second_64 : decode cX0_second 64 = .ok (.ifCond .ge 7, 3) := dk_156 0 7 (dk_at dksX0_second_2 20 rfl rfl)
theorem dX0_second_67 : decode cX0_second 67 = .ok (.iconst (-1), 1) := dk_2 (dk_at dksX0_second_2 23 rfl rfl)
theorem dX0_second_68 : decode cX0_second 68 = .ok (.goto 30, 3) := dk_167 0 30 (dk_at dksX0_second_3 0 rfl rfl)
theorem dX0_second_71 : decode cX0_second 71 = .ok (.iload_n 2, 1) := dk_28 (dk_at dksX0_second_3 3 rfl rfl)
theorem dX0_second_72 : decode cX0_second 72 = .ok (.ifCond .ne 10, 3) := dk_154 0 10 (dk_at dksX0_second_3 4 rfl rfl)
theorem dX0_second_75 : decode cX0_second 75 = .ok (.aload_n 0, 1) := dk_42 (dk_at dksX0_second_3 7 rfl rfl)
theorem dX0_second_76 : decode cX0_second 76 = .ok (.getfield 331, 3) := dk_180 1 75 (dk_at dksX0_second_3 8 rfl rfl)
theorem dX0_second_79 : decode cX0_second 79 = .ok (.goto 19, 3) := dk_167 0 19 (dk_at dksX0_second_3 11 rfl rfl)
theorem dX0_second_82 : decode cX0_second 82 = .ok (.iload_n 2, 1) := dk_28 (dk_at dksX0_second_3 14 rfl rfl)
theorem dX0_second_83 : decode cX0_second 83 = .ok (.iconst 1, 1) := dk_4 (dk_at dksX0_second_3 15 rfl rfl)
theorem dX0_second_84 : decode cX0_second 84 = .ok (.if_icmp .ne 10, 3) := dk_160 0 10 (dk_at dksX0_second_3 16 rfl rfl)
theorem dX0_second_87 : decode cX0_second 87 = .ok (.aload_n 0, 1) := dk_42 (dk_at dksX0_second_3 19 rfl rfl)
theorem dX0_second_88 : decode cX0_second 88 = .ok (.getfield 328, 3) := dk_180 1 72 (dk_at dksX0_second_3 20 rfl rfl)
theorem dX0_second_91 : decode cX0_second 91 = .ok (.goto 7, 3) := dk_167 0 7 (dk_at dksX0_second_4 0 rfl rfl)
theorem dX0_second_94 : decode cX0_second 94 = .ok (.aload_n 0, 1) := dk_42 (dk_at dksX0_second_4 3 rfl rfl)
theorem dX0_second_95 : decode cX0_second 95 = .ok (.getfield 334, 3) := dk_180 1 78 (dk_at dksX0_second_4 4 rfl rfl)
theorem dX0_second_98 : decode cX0_second 98 = .ok (.invokevirtual 296, 3) := dk_182 1 40 (dk_at dksX0_second_4 7 rfl rfl)
theorem dX0_second_101 : decode cX0_second 101 = .ok (.ireturn, 1) := dk_172 (dk_at dksX0_second_4 10 rfl rfl)
abbrev cX0_sums : ByteArray := prog_1_method_50_code
def yX0_sums : MethodName := ⟨RX0, "sums", "(III)V"⟩
def dkwX0_sums_5 : List UInt8 := [182, 1, 81, 132, 4, 1, 167, 255, 201, 177]
abbrev dktX0_sums_5 : List UInt8 := dkwX0_sums_5 ++ []
def dkwX0_sums_4 : List UInt8 := [42, 27, 42, 182, 0, 163, 180, 1, 43, 21, 4, 46, 100, 21, 4, 4, 96, 29, 4, 21, 4, 120, 128]
abbrev dktX0_sums_4 : List UInt8 := dkwX0_sums_4 ++ dktX0_sums_5
def dkwX0_sums_3 : List UInt8 := [42, 182, 0, 163, 180, 0, 236, 162, 0, 49, 42, 182, 0, 163, 180, 1, 43, 21, 4, 46, 27, 163, 0, 29]
abbrev dktX0_sums_3 : List UInt8 := dkwX0_sums_3 ++ dktX0_sums_4
def dkwX0_sums_2 : List UInt8 := [180, 1, 78, 161, 0, 4, 177, 42, 21, 4, 181, 1, 75, 42, 29, 181, 1, 78, 177, 28, 54, 4, 21, 4]
abbrev dktX0_sums_2 : List UInt8 := dkwX0_sums_2 ++ dktX0_sums_3
def dkwX0_sums_1 : List UInt8 := [155, 0, 30, 21, 4, 42, 180, 1, 75, 163, 0, 20, 21, 4, 42, 180, 1, 75, 160, 0, 12, 29, 42]
abbrev dktX0_sums_1 : List UInt8 := dkwX0_sums_1 ++ dktX0_sums_2
def dkwX0_sums_0 : List UInt8 := [27, 154, 0, 65, 42, 89, 180, 1, 72, 4, 96, 181, 1, 72, 29, 184, 0, 252, 54, 4, 42, 180, 1, 75]
abbrev dktX0_sums_0 : List UInt8 := dkwX0_sums_0 ++ dktX0_sums_1
theorem dksX0_sums_0 : cX0_sums.data.toList.drop 0 = dktX0_sums_0 := by decide +kernel
theorem dksX0_sums_1 : cX0_sums.data.toList.drop 24 = dktX0_sums_1 := dk_seg dksX0_sums_0 24 rfl rfl
theorem dksX0_sums_2 : cX0_sums.data.toList.drop 47 = dktX0_sums_2 := dk_seg dksX0_sums_1 23 rfl rfl
theorem dksX0_sums_3 : cX0_sums.data.toList.drop 71 = dktX0_sums_3 := dk_seg dksX0_sums_2 24 rfl rfl
theorem dksX0_sums_4 : cX0_sums.data.toList.drop 95 = dktX0_sums_4 := dk_seg dksX0_sums_3 24 rfl rfl
theorem dksX0_sums_5 : cX0_sums.data.toList.drop 118 = dktX0_sums_5 := dk_seg dksX0_sums_4 23 rfl rfl
theorem dX0_sums_0 : decode cX0_sums 0 = .ok (.iload_n 1, 1) := dk_27 (dk_at dksX0_sums_0 0 rfl rfl)
theorem dX0_sums_1 : decode cX0_sums 1 = .ok (.ifCond .ne 65, 3) := dk_154 0 65 (dk_at dksX0_sums_0 1 rfl rfl)
theorem dX0_sums_4 : decode cX0_sums 4 = .ok (.aload_n 0, 1) := dk_42 (dk_at dksX0_sums_0 4 rfl rfl)
theorem dX0_sums_5 : decode cX0_sums 5 = .ok (.dup, 1) := dk_89 (dk_at dksX0_sums_0 5 rfl rfl)
theorem dX0_sums_6 : decode cX0_sums 6 = .ok (.getfield 328, 3) := dk_180 1 72 (dk_at dksX0_sums_0 6 rfl rfl)
theorem dX0_sums_9 : decode cX0_sums 9 = .ok (.iconst 1, 1) := dk_4 (dk_at dksX0_sums_0 9 rfl rfl)
theorem dX0_sums_10 : decode cX0_sums 10 = .ok (.iadd, 1) := dk_96 (dk_at dksX0_sums_0 10 rfl rfl)
theorem dX0_sums_11 : decode cX0_sums 11 = .ok (.putfield 328, 3) := dk_181 1 72 (dk_at dksX0_sums_0 11 rfl rfl)
theorem dX0_sums_14 : decode cX0_sums 14 = .ok (.iload_n 3, 1) := dk_29 (dk_at dksX0_sums_0 14 rfl rfl)
theorem dX0_sums_15 : decode cX0_sums 15 = .ok (.invokestatic 252, 3) := dk_184 0 252 (dk_at dksX0_sums_0 15 rfl rfl)
theorem dX0_sums_18 : decode cX0_sums 18 = .ok (.istore 4, 2) := dk_54 4 (dk_at dksX0_sums_0 18 rfl rfl)
theorem dX0_sums_20 : decode cX0_sums 20 = .ok (.aload_n 0, 1) := dk_42 (dk_at dksX0_sums_0 20 rfl rfl)
theorem dX0_sums_21 : decode cX0_sums 21 = .ok (.getfield 331, 3) := dk_180 1 75 (dk_at dksX0_sums_0 21 rfl rfl)
theorem dX0_sums_24 : decode cX0_sums 24 = .ok (.ifCond .lt 30, 3) := dk_155 0 30 (dk_at dksX0_sums_1 0 rfl rfl)
theorem dX0_sums_27 : decode cX0_sums 27 = .ok (.iload 4, 2) := dk_21 4 (dk_at dksX0_sums_1 3 rfl rfl)
theorem dX0_sums_29 : decode cX0_sums 29 = .ok (.aload_n 0, 1) := dk_42 (dk_at dksX0_sums_1 5 rfl rfl)
theorem dX0_sums_30 : decode cX0_sums 30 = .ok (.getfield 331, 3) := dk_180 1 75 (dk_at dksX0_sums_1 6 rfl rfl)
theorem dX0_sums_33 : decode cX0_sums 33 = .ok (.if_icmp .gt 20, 3) := dk_163 0 20 (dk_at dksX0_sums_1 9 rfl rfl)
theorem dX0_sums_36 : decode cX0_sums 36 = .ok (.iload 4, 2) := dk_21 4 (dk_at dksX0_sums_1 12 rfl rfl)
theorem dX0_sums_38 : decode cX0_sums 38 = .ok (.aload_n 0, 1) := dk_42 (dk_at dksX0_sums_1 14 rfl rfl)
theorem dX0_sums_39 : decode cX0_sums 39 = .ok (.getfield 331, 3) := dk_180 1 75 (dk_at dksX0_sums_1 15 rfl rfl)
theorem dX0_sums_42 : decode cX0_sums 42 = .ok (.if_icmp .ne 12, 3) := dk_160 0 12 (dk_at dksX0_sums_1 18 rfl rfl)
theorem dX0_sums_45 : decode cX0_sums 45 = .ok (.iload_n 3, 1) := dk_29 (dk_at dksX0_sums_1 21 rfl rfl)
theorem dX0_sums_46 : decode cX0_sums 46 = .ok (.aload_n 0, 1) := dk_42 (dk_at dksX0_sums_1 22 rfl rfl)
theorem dX0_sums_47 : decode cX0_sums 47 = .ok (.getfield 334, 3) := dk_180 1 78 (dk_at dksX0_sums_2 0 rfl rfl)
theorem dX0_sums_50 : decode cX0_sums 50 = .ok (.if_icmp .lt 4, 3) := dk_161 0 4 (dk_at dksX0_sums_2 3 rfl rfl)
theorem dX0_sums_53 : decode cX0_sums 53 = .ok (.return_, 1) := dk_177 (dk_at dksX0_sums_2 6 rfl rfl)
theorem dX0_sums_54 : decode cX0_sums 54 = .ok (.aload_n 0, 1) := dk_42 (dk_at dksX0_sums_2 7 rfl rfl)
theorem dX0_sums_55 : decode cX0_sums 55 = .ok (.iload 4, 2) := dk_21 4 (dk_at dksX0_sums_2 8 rfl rfl)
theorem dX0_sums_57 : decode cX0_sums 57 = .ok (.putfield 331, 3) := dk_181 1 75 (dk_at dksX0_sums_2 10 rfl rfl)
theorem dX0_sums_60 : decode cX0_sums 60 = .ok (.aload_n 0, 1) := dk_42 (dk_at dksX0_sums_2 13 rfl rfl)
theorem dX0_sums_61 : decode cX0_sums 61 = .ok (.iload_n 3, 1) := dk_29 (dk_at dksX0_sums_2 14 rfl rfl)
theorem dX0_sums_62 : decode cX0_sums 62 = .ok (.putfield 334, 3) := dk_181 1 78 (dk_at dksX0_sums_2 15 rfl rfl)
theorem dX0_sums_65 : decode cX0_sums 65 = .ok (.return_, 1) := dk_177 (dk_at dksX0_sums_2 18 rfl rfl)
theorem dX0_sums_66 : decode cX0_sums 66 = .ok (.iload_n 2, 1) := dk_28 (dk_at dksX0_sums_2 19 rfl rfl)
theorem dX0_sums_67 : decode cX0_sums 67 = .ok (.istore 4, 2) := dk_54 4 (dk_at dksX0_sums_2 20 rfl rfl)
theorem dX0_sums_69 : decode cX0_sums 69 = .ok (.iload 4, 2) := dk_21 4 (dk_at dksX0_sums_2 22 rfl rfl)
theorem dX0_sums_71 : decode cX0_sums 71 = .ok (.aload_n 0, 1) := dk_42 (dk_at dksX0_sums_3 0 rfl rfl)
theorem dX0_sums_72 : decode cX0_sums 72 = .ok (.invokevirtual 163, 3) := dk_182 0 163 (dk_at dksX0_sums_3 1 rfl rfl)
theorem dX0_sums_75 : decode cX0_sums 75 = .ok (.getfield 236, 3) := dk_180 0 236 (dk_at dksX0_sums_3 4 rfl rfl)
theorem dX0_sums_78 : decode cX0_sums 78 = .ok (.if_icmp .ge 49, 3) := dk_162 0 49 (dk_at dksX0_sums_3 7 rfl rfl)
theorem dX0_sums_81 : decode cX0_sums 81 = .ok (.aload_n 0, 1) := dk_42 (dk_at dksX0_sums_3 10 rfl rfl)
theorem dX0_sums_82 : decode cX0_sums 82 = .ok (.invokevirtual 163, 3) := dk_182 0 163 (dk_at dksX0_sums_3 11 rfl rfl)
theorem dX0_sums_85 : decode cX0_sums 85 = .ok (.getfield 299, 3) := dk_180 1 43 (dk_at dksX0_sums_3 14 rfl rfl)
theorem dX0_sums_88 : decode cX0_sums 88 = .ok (.iload 4, 2) := dk_21 4 (dk_at dksX0_sums_3 17 rfl rfl)
theorem dX0_sums_90 : decode cX0_sums 90 = .ok (.iaload, 1) := dk_46 (dk_at dksX0_sums_3 19 rfl rfl)
theorem dX0_sums_91 : decode cX0_sums 91 = .ok (.iload_n 1, 1) := dk_27 (dk_at dksX0_sums_3 20 rfl rfl)
theorem dX0_sums_92 : decode cX0_sums 92 = .ok (.if_icmp .gt 29, 3) := dk_163 0 29 (dk_at dksX0_sums_3 21 rfl rfl)
theorem dX0_sums_95 : decode cX0_sums 95 = .ok (.aload_n 0, 1) := dk_42 (dk_at dksX0_sums_4 0 rfl rfl)
theorem dX0_sums_96 : decode cX0_sums 96 = .ok (.iload_n 1, 1) := dk_27 (dk_at dksX0_sums_4 1 rfl rfl)
theorem dX0_sums_97 : decode cX0_sums 97 = .ok (.aload_n 0, 1) := dk_42 (dk_at dksX0_sums_4 2 rfl rfl)
theorem dX0_sums_98 : decode cX0_sums 98 = .ok (.invokevirtual 163, 3) := dk_182 0 163 (dk_at dksX0_sums_4 3 rfl rfl)
theorem dX0_sums_101 : decode cX0_sums 101 = .ok (.getfield 299, 3) := dk_180 1 43 (dk_at dksX0_sums_4 6 rfl rfl)
theorem dX0_sums_104 : decode cX0_sums 104 = .ok (.iload 4, 2) := dk_21 4 (dk_at dksX0_sums_4 9 rfl rfl)
theorem dX0_sums_106 : decode cX0_sums 106 = .ok (.iaload, 1) := dk_46 (dk_at dksX0_sums_4 11 rfl rfl)
theorem dX0_sums_107 : decode cX0_sums 107 = .ok (.isub, 1) := dk_100 (dk_at dksX0_sums_4 12 rfl rfl)
theorem dX0_sums_108 : decode cX0_sums 108 = .ok (.iload 4, 2) := dk_21 4 (dk_at dksX0_sums_4 13 rfl rfl)
theorem dX0_sums_110 : decode cX0_sums 110 = .ok (.iconst 1, 1) := dk_4 (dk_at dksX0_sums_4 15 rfl rfl)
theorem dX0_sums_111 : decode cX0_sums 111 = .ok (.iadd, 1) := dk_96 (dk_at dksX0_sums_4 16 rfl rfl)
theorem dX0_sums_112 : decode cX0_sums 112 = .ok (.iload_n 3, 1) := dk_29 (dk_at dksX0_sums_4 17 rfl rfl)
theorem dX0_sums_113 : decode cX0_sums 113 = .ok (.iconst 1, 1) := dk_4 (dk_at dksX0_sums_4 18 rfl rfl)
theorem dX0_sums_114 : decode cX0_sums 114 = .ok (.iload 4, 2) := dk_21 4 (dk_at dksX0_sums_4 19 rfl rfl)
theorem dX0_sums_116 : decode cX0_sums 116 = .ok (.ishl, 1) := dk_120 (dk_at dksX0_sums_4 21 rfl rfl)
theorem dX0_sums_117 : decode cX0_sums 117 = .ok (.ior, 1) := dk_128 (dk_at dksX0_sums_4 22 rfl rfl)
theorem dX0_sums_118 : decode cX0_sums 118 = .ok (.invokevirtual 337, 3) := dk_182 1 81 (dk_at dksX0_sums_5 0 rfl rfl)
theorem dX0_sums_121 : decode cX0_sums 121 = .ok (.iinc 4 1, 3) := dk_132 4 1 (dk_at dksX0_sums_5 3 rfl rfl)
theorem dX0_sums_124 : decode cX0_sums 124 = .ok (.goto (-55), 3) := dk_167 255 201 (dk_at dksX0_sums_5 6 rfl rfl)
theorem dX0_sums_127 : decode cX0_sums 127 = .ok (.return_, 1) := dk_177 (dk_at dksX0_sums_5 9 rfl rfl)
abbrev cX0_padded : ByteArray := prog_1_method_52_code
def yX0_padded : MethodName := ⟨RX0, "padded", "(I)I"⟩
def dkwX0_padded_1 : List UInt8 := [180, 0, 82, 158, 0, 7, 2, 167, 0, 12, 27, 42, 182, 0, 163, 182, 0, 245, 100, 172]
abbrev dktX0_padded_1 : List UInt8 := dkwX0_padded_1 ++ []
def dkwX0_padded_0 : List UInt8 := [42, 27, 133, 9, 20, 1, 87, 184, 0, 170, 153, 0, 7, 3, 167, 0, 4, 4, 181, 0, 82, 42]
abbrev dktX0_padded_0 : List UInt8 := dkwX0_padded_0 ++ dktX0_padded_1
theorem dksX0_padded_0 : cX0_padded.data.toList.drop 0 = dktX0_padded_0 := by decide +kernel
theorem dksX0_padded_1 : cX0_padded.data.toList.drop 22 = dktX0_padded_1 := dk_seg dksX0_padded_0 22 rfl rfl
theorem dX0_padded_0 : decode cX0_padded 0 = .ok (.aload_n 0, 1) := dk_42 (dk_at dksX0_padded_0 0 rfl rfl)
theorem dX0_padded_1 : decode cX0_padded 1 = .ok (.iload_n 1, 1) := dk_27 (dk_at dksX0_padded_0 1 rfl rfl)
theorem dX0_padded_2 : decode cX0_padded 2 = .ok (.i2l, 1) := dk_133 (dk_at dksX0_padded_0 2 rfl rfl)
theorem dX0_padded_3 : decode cX0_padded 3 = .ok (.lconst 0, 1) := dk_9 (dk_at dksX0_padded_0 3 rfl rfl)
theorem dX0_padded_4 : decode cX0_padded 4 = .ok (.ldc2_w 343, 3) := dk_20 1 87 (dk_at dksX0_padded_0 4 rfl rfl)
theorem dX0_padded_7 : decode cX0_padded 7 = .ok (.invokestatic 170, 3) := dk_184 0 170 (dk_at dksX0_padded_0 7 rfl rfl)
theorem dX0_padded_10 : decode cX0_padded 10 = .ok (.ifCond .eq 7, 3) := dk_153 0 7 (dk_at dksX0_padded_0 10 rfl rfl)
theorem dX0_padded_13 : decode cX0_padded 13 = .ok (.iconst 0, 1) := dk_3 (dk_at dksX0_padded_0 13 rfl rfl)
theorem dX0_padded_14 : decode cX0_padded 14 = .ok (.goto 4, 3) := dk_167 0 4 (dk_at dksX0_padded_0 14 rfl rfl)
theorem dX0_padded_17 : decode cX0_padded 17 = .ok (.iconst 1, 1) := dk_4 (dk_at dksX0_padded_0 17 rfl rfl)
theorem dX0_padded_18 : decode cX0_padded 18 = .ok (.putfield 82, 3) := dk_181 0 82 (dk_at dksX0_padded_0 18 rfl rfl)
theorem dX0_padded_21 : decode cX0_padded 21 = .ok (.aload_n 0, 1) := dk_42 (dk_at dksX0_padded_0 21 rfl rfl)
theorem dX0_padded_22 : decode cX0_padded 22 = .ok (.getfield 82, 3) := dk_180 0 82 (dk_at dksX0_padded_1 0 rfl rfl)
theorem dX0_padded_25 : decode cX0_padded 25 = .ok (.ifCond .le 7, 3) := dk_158 0 7 (dk_at dksX0_padded_1 3 rfl rfl)
theorem dX0_padded_28 : decode cX0_padded 28 = .ok (.iconst (-1), 1) := dk_2 (dk_at dksX0_padded_1 6 rfl rfl)
theorem dX0_padded_29 : decode cX0_padded 29 = .ok (.goto 12, 3) := dk_167 0 12 (dk_at dksX0_padded_1 7 rfl rfl)
theorem dX0_padded_32 : decode cX0_padded 32 = .ok (.iload_n 1, 1) := dk_27 (dk_at dksX0_padded_1 10 rfl rfl)
theorem dX0_padded_33 : decode cX0_padded 33 = .ok (.aload_n 0, 1) := dk_42 (dk_at dksX0_padded_1 11 rfl rfl)
theorem dX0_padded_34 : decode cX0_padded 34 = .ok (.invokevirtual 163, 3) := dk_182 0 163 (dk_at dksX0_padded_1 12 rfl rfl)
theorem dX0_padded_37 : decode cX0_padded 37 = .ok (.invokevirtual 245, 3) := dk_182 0 245 (dk_at dksX0_padded_1 15 rfl rfl)
theorem dX0_padded_40 : decode cX0_padded 40 = .ok (.isub, 1) := dk_100 (dk_at dksX0_padded_1 18 rfl rfl)
theorem dX0_padded_41 : decode cX0_padded 41 = .ok (.ireturn, 1) := dk_172 (dk_at dksX0_padded_1 19 rfl rfl)
abbrev cX0_pay : ByteArray := prog_1_method_53_code
def yX0_pay : MethodName := ⟨RX0, "pay", "(I)I"⟩
def dkwX0_pay_2 : List UInt8 := [180, 0, 228, 27, 46, 172]
abbrev dktX0_pay_2 : List UInt8 := dkwX0_pay_2 ++ []
def dkwX0_pay_1 : List UInt8 := [3, 167, 0, 5, 16, 7, 181, 0, 82, 42, 180, 0, 82, 158, 0, 7, 2, 167, 0, 12, 42, 182, 0, 163]
abbrev dktX0_pay_1 : List UInt8 := dkwX0_pay_1 ++ dktX0_pay_2
def dkwX0_pay_0 : List UInt8 := [42, 42, 27, 182, 0, 174, 154, 0, 7, 4, 167, 0, 20, 42, 182, 0, 163, 27, 182, 1, 89, 153, 0, 7]
abbrev dktX0_pay_0 : List UInt8 := dkwX0_pay_0 ++ dktX0_pay_1
theorem dksX0_pay_0 : cX0_pay.data.toList.drop 0 = dktX0_pay_0 := by decide +kernel
theorem dksX0_pay_1 : cX0_pay.data.toList.drop 24 = dktX0_pay_1 := dk_seg dksX0_pay_0 24 rfl rfl
theorem dksX0_pay_2 : cX0_pay.data.toList.drop 48 = dktX0_pay_2 := dk_seg dksX0_pay_1 24 rfl rfl
theorem dX0_pay_0 : decode cX0_pay 0 = .ok (.aload_n 0, 1) := dk_42 (dk_at dksX0_pay_0 0 rfl rfl)
theorem dX0_pay_1 : decode cX0_pay 1 = .ok (.aload_n 0, 1) := dk_42 (dk_at dksX0_pay_0 1 rfl rfl)
theorem dX0_pay_2 : decode cX0_pay 2 = .ok (.iload_n 1, 1) := dk_27 (dk_at dksX0_pay_0 2 rfl rfl)
theorem dX0_pay_3 : decode cX0_pay 3 = .ok (.invokevirtual 174, 3) := dk_182 0 174 (dk_at dksX0_pay_0 3 rfl rfl)
theorem dX0_pay_6 : decode cX0_pay 6 = .ok (.ifCond .ne 7, 3) := dk_154 0 7 (dk_at dksX0_pay_0 6 rfl rfl)
theorem dX0_pay_9 : decode cX0_pay 9 = .ok (.iconst 1, 1) := dk_4 (dk_at dksX0_pay_0 9 rfl rfl)
theorem dX0_pay_10 : decode cX0_pay 10 = .ok (.goto 20, 3) := dk_167 0 20 (dk_at dksX0_pay_0 10 rfl rfl)
theorem dX0_pay_13 : decode cX0_pay 13 = .ok (.aload_n 0, 1) := dk_42 (dk_at dksX0_pay_0 13 rfl rfl)
theorem dX0_pay_14 : decode cX0_pay 14 = .ok (.invokevirtual 163, 3) := dk_182 0 163 (dk_at dksX0_pay_0 14 rfl rfl)
theorem dX0_pay_17 : decode cX0_pay 17 = .ok (.iload_n 1, 1) := dk_27 (dk_at dksX0_pay_0 17 rfl rfl)
theorem dX0_pay_18 : decode cX0_pay 18 = .ok (.invokevirtual 345, 3) := dk_182 1 89 (dk_at dksX0_pay_0 18 rfl rfl)
theorem dX0_pay_21 : decode cX0_pay 21 = .ok (.ifCond .eq 7, 3) := dk_153 0 7 (dk_at dksX0_pay_0 21 rfl rfl)
theorem dX0_pay_24 : decode cX0_pay 24 = .ok (.iconst 0, 1) := dk_3 (dk_at dksX0_pay_1 0 rfl rfl)
theorem dX0_pay_25 : decode cX0_pay 25 = .ok (.goto 5, 3) := dk_167 0 5 (dk_at dksX0_pay_1 1 rfl rfl)
theorem dX0_pay_28 : decode cX0_pay 28 = .ok (.bipush 7, 2) := dk_16 7 (dk_at dksX0_pay_1 4 rfl rfl)
theorem dX0_pay_30 : decode cX0_pay 30 = .ok (.putfield 82, 3) := dk_181 0 82 (dk_at dksX0_pay_1 6 rfl rfl)
theorem dX0_pay_33 : decode cX0_pay 33 = .ok (.aload_n 0, 1) := dk_42 (dk_at dksX0_pay_1 9 rfl rfl)
theorem dX0_pay_34 : decode cX0_pay 34 = .ok (.getfield 82, 3) := dk_180 0 82 (dk_at dksX0_pay_1 10 rfl rfl)
theorem dX0_pay_37 : decode cX0_pay 37 = .ok (.ifCond .le 7, 3) := dk_158 0 7 (dk_at dksX0_pay_1 13 rfl rfl)
theorem dX0_pay_40 : decode cX0_pay 40 = .ok (.iconst (-1), 1) := dk_2 (dk_at dksX0_pay_1 16 rfl rfl)
theorem dX0_pay_41 : decode cX0_pay 41 = .ok (.goto 12, 3) := dk_167 0 12 (dk_at dksX0_pay_1 17 rfl rfl)
theorem dX0_pay_44 : decode cX0_pay 44 = .ok (.aload_n 0, 1) := dk_42 (dk_at dksX0_pay_1 20 rfl rfl)
theorem dX0_pay_45 : decode cX0_pay 45 = .ok (.invokevirtual 163, 3) := dk_182 0 163 (dk_at dksX0_pay_1 21 rfl rfl)
theorem dX0_pay_48 : decode cX0_pay 48 = .ok (.getfield 228, 3) := dk_180 0 228 (dk_at dksX0_pay_2 0 rfl rfl)
theorem dX0_pay_51 : decode cX0_pay 51 = .ok (.iload_n 1, 1) := dk_27 (dk_at dksX0_pay_2 3 rfl rfl)
theorem dX0_pay_52 : decode cX0_pay 52 = .ok (.iaload, 1) := dk_46 (dk_at dksX0_pay_2 4 rfl rfl)
theorem dX0_pay_53 : decode cX0_pay 53 = .ok (.ireturn, 1) := dk_172 (dk_at dksX0_pay_2 5 rfl rfl)
abbrev cX0_turn : ByteArray := prog_1_method_54_code
def yX0_turn : MethodName := ⟨RX0, "turn", "()I"⟩
def dkwX0_turn_0 : List UInt8 := [42, 42, 182, 0, 163, 42, 182, 0, 163, 180, 0, 242, 182, 1, 92, 182, 1, 40, 172]
abbrev dktX0_turn_0 : List UInt8 := dkwX0_turn_0 ++ []
theorem dksX0_turn_0 : cX0_turn.data.toList.drop 0 = dktX0_turn_0 := by decide +kernel
theorem dX0_turn_0 : decode cX0_turn 0 = .ok (.aload_n 0, 1) := dk_42 (dk_at dksX0_turn_0 0 rfl rfl)
theorem dX0_turn_1 : decode cX0_turn 1 = .ok (.aload_n 0, 1) := dk_42 (dk_at dksX0_turn_0 1 rfl rfl)
theorem dX0_turn_2 : decode cX0_turn 2 = .ok (.invokevirtual 163, 3) := dk_182 0 163 (dk_at dksX0_turn_0 2 rfl rfl)
theorem dX0_turn_5 : decode cX0_turn 5 = .ok (.aload_n 0, 1) := dk_42 (dk_at dksX0_turn_0 5 rfl rfl)
theorem dX0_turn_6 : decode cX0_turn 6 = .ok (.invokevirtual 163, 3) := dk_182 0 163 (dk_at dksX0_turn_0 6 rfl rfl)
theorem dX0_turn_9 : decode cX0_turn 9 = .ok (.getfield 242, 3) := dk_180 0 242 (dk_at dksX0_turn_0 9 rfl rfl)
theorem dX0_turn_12 : decode cX0_turn 12 = .ok (.invokevirtual 348, 3) := dk_182 1 92 (dk_at dksX0_turn_0 12 rfl rfl)
theorem dX0_turn_15 : decode cX0_turn 15 = .ok (.invokevirtual 296, 3) := dk_182 1 40 (dk_at dksX0_turn_0 15 rfl rfl)
theorem dX0_turn_18 : decode cX0_turn 18 = .ok (.ireturn, 1) := dk_172 (dk_at dksX0_turn_0 18 rfl rfl)
abbrev cX0_turnBy : ByteArray := prog_1_method_55_code
def yX0_turnBy : MethodName := ⟨RX0, "turnBy", "(I)I"⟩
def dkwX0_turnBy_1 : List UInt8 := [167, 0, 15, 42, 42, 182, 0, 163, 27, 182, 1, 92, 182, 1, 40, 172]
abbrev dktX0_turnBy_1 : List UInt8 := dkwX0_turnBy_1 ++ []
def dkwX0_turnBy_0 : List UInt8 := [42, 27, 184, 1, 69, 153, 0, 7, 3, 167, 0, 4, 4, 181, 0, 82, 42, 180, 0, 82, 158, 0, 7, 2]
abbrev dktX0_turnBy_0 : List UInt8 := dkwX0_turnBy_0 ++ dktX0_turnBy_1
theorem dksX0_turnBy_0 : cX0_turnBy.data.toList.drop 0 = dktX0_turnBy_0 := by decide +kernel
theorem dksX0_turnBy_1 : cX0_turnBy.data.toList.drop 24 = dktX0_turnBy_1 := dk_seg dksX0_turnBy_0 24 rfl rfl
theorem dX0_turnBy_0 : decode cX0_turnBy 0 = .ok (.aload_n 0, 1) := dk_42 (dk_at dksX0_turnBy_0 0 rfl rfl)
theorem dX0_turnBy_1 : decode cX0_turnBy 1 = .ok (.iload_n 1, 1) := dk_27 (dk_at dksX0_turnBy_0 1 rfl rfl)
theorem dX0_turnBy_2 : decode cX0_turnBy 2 = .ok (.invokestatic 325, 3) := dk_184 1 69 (dk_at dksX0_turnBy_0 2 rfl rfl)
theorem dX0_turnBy_5 : decode cX0_turnBy 5 = .ok (.ifCond .eq 7, 3) := dk_153 0 7 (dk_at dksX0_turnBy_0 5 rfl rfl)
theorem dX0_turnBy_8 : decode cX0_turnBy 8 = .ok (.iconst 0, 1) := dk_3 (dk_at dksX0_turnBy_0 8 rfl rfl)
theorem dX0_turnBy_9 : decode cX0_turnBy 9 = .ok (.goto 4, 3) := dk_167 0 4 (dk_at dksX0_turnBy_0 9 rfl rfl)
theorem dX0_turnBy_12 : decode cX0_turnBy 12 = .ok (.iconst 1, 1) := dk_4 (dk_at dksX0_turnBy_0 12 rfl rfl)
theorem dX0_turnBy_13 : decode cX0_turnBy 13 = .ok (.putfield 82, 3) := dk_181 0 82 (dk_at dksX0_turnBy_0 13 rfl rfl)
theorem dX0_turnBy_16 : decode cX0_turnBy 16 = .ok (.aload_n 0, 1) := dk_42 (dk_at dksX0_turnBy_0 16 rfl rfl)
theorem dX0_turnBy_17 : decode cX0_turnBy 17 = .ok (.getfield 82, 3) := dk_180 0 82 (dk_at dksX0_turnBy_0 17 rfl rfl)
theorem dX0_turnBy_20 : decode cX0_turnBy 20 = .ok (.ifCond .le 7, 3) := dk_158 0 7 (dk_at dksX0_turnBy_0 20 rfl rfl)
theorem dX0_turnBy_23 : decode cX0_turnBy 23 = .ok (.iconst (-1), 1) := dk_2 (dk_at dksX0_turnBy_0 23 rfl rfl)
theorem dX0_turnBy_24 : decode cX0_turnBy 24 = .ok (.goto 15, 3) := dk_167 0 15 (dk_at dksX0_turnBy_1 0 rfl rfl)
theorem dX0_turnBy_27 : decode cX0_turnBy 27 = .ok (.aload_n 0, 1) := dk_42 (dk_at dksX0_turnBy_1 3 rfl rfl)
theorem dX0_turnBy_28 : decode cX0_turnBy 28 = .ok (.aload_n 0, 1) := dk_42 (dk_at dksX0_turnBy_1 4 rfl rfl)
theorem dX0_turnBy_29 : decode cX0_turnBy 29 = .ok (.invokevirtual 163, 3) := dk_182 0 163 (dk_at dksX0_turnBy_1 5 rfl rfl)
theorem dX0_turnBy_32 : decode cX0_turnBy 32 = .ok (.iload_n 1, 1) := dk_27 (dk_at dksX0_turnBy_1 8 rfl rfl)
theorem dX0_turnBy_33 : decode cX0_turnBy 33 = .ok (.invokevirtual 348, 3) := dk_182 1 92 (dk_at dksX0_turnBy_1 9 rfl rfl)
theorem dX0_turnBy_36 : decode cX0_turnBy 36 = .ok (.invokevirtual 296, 3) := dk_182 1 40 (dk_at dksX0_turnBy_1 12 rfl rfl)
theorem dX0_turnBy_39 : decode cX0_turnBy 39 = .ok (.ireturn, 1) := dk_172 (dk_at dksX0_turnBy_1 15 rfl rfl)
abbrev cX0_duel : ByteArray := prog_1_method_59_code
def yX0_duel : MethodName := ⟨RX0, "duel", "(II)Z"⟩
def dkwX0_duel_1 : List UInt8 := [42, 27, 28, 182, 1, 98, 182, 1, 108, 87, 42, 180, 0, 82, 154, 0, 7, 4, 167, 0, 4, 3, 172]
abbrev dktX0_duel_1 : List UInt8 := dkwX0_duel_1 ++ []
def dkwX0_duel_0 : List UInt8 := [42, 42, 27, 28, 182, 1, 102, 181, 0, 82, 42, 180, 0, 82, 154, 0, 20, 42, 42, 27, 28, 182, 1, 105]
abbrev dktX0_duel_0 : List UInt8 := dkwX0_duel_0 ++ dktX0_duel_1
theorem dksX0_duel_0 : cX0_duel.data.toList.drop 0 = dktX0_duel_0 := by decide +kernel
theorem dksX0_duel_1 : cX0_duel.data.toList.drop 24 = dktX0_duel_1 := dk_seg dksX0_duel_0 24 rfl rfl
theorem dX0_duel_0 : decode cX0_duel 0 = .ok (.aload_n 0, 1) := dk_42 (dk_at dksX0_duel_0 0 rfl rfl)
theorem dX0_duel_1 : decode cX0_duel 1 = .ok (.aload_n 0, 1) := dk_42 (dk_at dksX0_duel_0 1 rfl rfl)
theorem dX0_duel_2 : decode cX0_duel 2 = .ok (.iload_n 1, 1) := dk_27 (dk_at dksX0_duel_0 2 rfl rfl)
theorem dX0_duel_3 : decode cX0_duel 3 = .ok (.iload_n 2, 1) := dk_28 (dk_at dksX0_duel_0 3 rfl rfl)
theorem dX0_duel_4 : decode cX0_duel 4 = .ok (.invokevirtual 358, 3) := dk_182 1 102 (dk_at dksX0_duel_0 4 rfl rfl)
theorem dX0_duel_7 : decode cX0_duel 7 = .ok (.putfield 82, 3) := dk_181 0 82 (dk_at dksX0_duel_0 7 rfl rfl)
theorem dX0_duel_10 : decode cX0_duel 10 = .ok (.aload_n 0, 1) := dk_42 (dk_at dksX0_duel_0 10 rfl rfl)
theorem dX0_duel_11 : decode cX0_duel 11 = .ok (.getfield 82, 3) := dk_180 0 82 (dk_at dksX0_duel_0 11 rfl rfl)
theorem dX0_duel_14 : decode cX0_duel 14 = .ok (.ifCond .ne 20, 3) := dk_154 0 20 (dk_at dksX0_duel_0 14 rfl rfl)
theorem dX0_duel_17 : decode cX0_duel 17 = .ok (.aload_n 0, 1) := dk_42 (dk_at dksX0_duel_0 17 rfl rfl)
theorem dX0_duel_18 : decode cX0_duel 18 = .ok (.aload_n 0, 1) := dk_42 (dk_at dksX0_duel_0 18 rfl rfl)
theorem dX0_duel_19 : decode cX0_duel 19 = .ok (.iload_n 1, 1) := dk_27 (dk_at dksX0_duel_0 19 rfl rfl)
theorem dX0_duel_20 : decode cX0_duel 20 = .ok (.iload_n 2, 1) := dk_28 (dk_at dksX0_duel_0 20 rfl rfl)
theorem dX0_duel_21 : decode cX0_duel 21 = .ok (.invokevirtual 361, 3) := dk_182 1 105 (dk_at dksX0_duel_0 21 rfl rfl)
theorem dX0_duel_24 : decode cX0_duel 24 = .ok (.aload_n 0, 1) := dk_42 (dk_at dksX0_duel_1 0 rfl rfl)
theorem dX0_duel_25 : decode cX0_duel 25 = .ok (.iload_n 1, 1) := dk_27 (dk_at dksX0_duel_1 1 rfl rfl)
theorem dX0_duel_26 : decode cX0_duel 26 = .ok (.iload_n 2, 1) := dk_28 (dk_at dksX0_duel_1 2 rfl rfl)
theorem dX0_duel_27 : decode cX0_duel 27 = .ok (.invokevirtual 354, 3) := dk_182 1 98 (dk_at dksX0_duel_1 3 rfl rfl)
theorem dX0_duel_30 : decode cX0_duel 30 = .ok (.invokevirtual 364, 3) := dk_182 1 108 (dk_at dksX0_duel_1 6 rfl rfl)
theorem dX0_duel_33 : decode cX0_duel 33 = .ok (.pop, 1) := dk_87 (dk_at dksX0_duel_1 9 rfl rfl)
theorem dX0_duel_34 : decode cX0_duel 34 = .ok (.aload_n 0, 1) := dk_42 (dk_at dksX0_duel_1 10 rfl rfl)
theorem dX0_duel_35 : decode cX0_duel 35 = .ok (.getfield 82, 3) := dk_180 0 82 (dk_at dksX0_duel_1 11 rfl rfl)
theorem dX0_duel_38 : decode cX0_duel 38 = .ok (.ifCond .ne 7, 3) := dk_154 0 7 (dk_at dksX0_duel_1 14 rfl rfl)
theorem dX0_duel_41 : decode cX0_duel 41 = .ok (.iconst 1, 1) := dk_4 (dk_at dksX0_duel_1 17 rfl rfl)
theorem dX0_duel_42 : decode cX0_duel 42 = .ok (.goto 4, 3) := dk_167 0 4 (dk_at dksX0_duel_1 18 rfl rfl)
theorem dX0_duel_45 : decode cX0_duel 45 = .ok (.iconst 0, 1) := dk_3 (dk_at dksX0_duel_1 21 rfl rfl)
theorem dX0_duel_46 : decode cX0_duel 46 = .ok (.ireturn, 1) := dk_172 (dk_at dksX0_duel_1 22 rfl rfl)
abbrev cX0_whyNoDuel : ByteArray := prog_1_method_58_code
def yX0_whyNoDuel : MethodName := ⟨RX0, "whyNoDuel", "(II)I"⟩
def dkwX0_whyNoDuel_1 : List UInt8 := [16, 6, 167, 0, 4, 3, 172]
abbrev dktX0_whyNoDuel_1 : List UInt8 := dkwX0_whyNoDuel_1 ++ []
def dkwX0_whyNoDuel_0 : List UInt8 := [42, 27, 28, 182, 1, 95, 154, 0, 7, 4, 167, 0, 20, 42, 27, 28, 182, 1, 98, 9, 148, 154, 0, 8]
abbrev dktX0_whyNoDuel_0 : List UInt8 := dkwX0_whyNoDuel_0 ++ dktX0_whyNoDuel_1
theorem dksX0_whyNoDuel_0 : cX0_whyNoDuel.data.toList.drop 0 = dktX0_whyNoDuel_0 := by decide +kernel
theorem dksX0_whyNoDuel_1 : cX0_whyNoDuel.data.toList.drop 24 = dktX0_whyNoDuel_1 := dk_seg dksX0_whyNoDuel_0 24 rfl rfl
theorem dX0_whyNoDuel_0 : decode cX0_whyNoDuel 0 = .ok (.aload_n 0, 1) := dk_42 (dk_at dksX0_whyNoDuel_0 0 rfl rfl)
theorem dX0_whyNoDuel_1 : decode cX0_whyNoDuel 1 = .ok (.iload_n 1, 1) := dk_27 (dk_at dksX0_whyNoDuel_0 1 rfl rfl)
theorem dX0_whyNoDuel_2 : decode cX0_whyNoDuel 2 = .ok (.iload_n 2, 1) := dk_28 (dk_at dksX0_whyNoDuel_0 2 rfl rfl)
theorem dX0_whyNoDuel_3 : decode cX0_whyNoDuel 3 = .ok (.invokevirtual 351, 3) := dk_182 1 95 (dk_at dksX0_whyNoDuel_0 3 rfl rfl)
theorem dX0_whyNoDuel_6 : decode cX0_whyNoDuel 6 = .ok (.ifCond .ne 7, 3) := dk_154 0 7 (dk_at dksX0_whyNoDuel_0 6 rfl rfl)
theorem dX0_whyNoDuel_9 : decode cX0_whyNoDuel 9 = .ok (.iconst 1, 1) := dk_4 (dk_at dksX0_whyNoDuel_0 9 rfl rfl)
theorem dX0_whyNoDuel_10 : decode cX0_whyNoDuel 10 = .ok (.goto 20, 3) := dk_167 0 20 (dk_at dksX0_whyNoDuel_0 10 rfl rfl)
theorem dX0_whyNoDuel_13 : decode cX0_whyNoDuel 13 = .ok (.aload_n 0, 1) := dk_42 (dk_at dksX0_whyNoDuel_0 13 rfl rfl)
theorem dX0_whyNoDuel_14 : decode cX0_whyNoDuel 14 = .ok (.iload_n 1, 1) := dk_27 (dk_at dksX0_whyNoDuel_0 14 rfl rfl)
theorem dX0_whyNoDuel_15 : decode cX0_whyNoDuel 15 = .ok (.iload_n 2, 1) := dk_28 (dk_at dksX0_whyNoDuel_0 15 rfl rfl)
theorem dX0_whyNoDuel_16 : decode cX0_whyNoDuel 16 = .ok (.invokevirtual 354, 3) := dk_182 1 98 (dk_at dksX0_whyNoDuel_0 16 rfl rfl)
theorem dX0_whyNoDuel_19 : decode cX0_whyNoDuel 19 = .ok (.lconst 0, 1) := dk_9 (dk_at dksX0_whyNoDuel_0 19 rfl rfl)
theorem dX0_whyNoDuel_20 : decode cX0_whyNoDuel 20 = .ok (.lcmp, 1) := dk_148 (dk_at dksX0_whyNoDuel_0 20 rfl rfl)
theorem dX0_whyNoDuel_21 : decode cX0_whyNoDuel 21 = .ok (.ifCond .ne 8, 3) := dk_154 0 8 (dk_at dksX0_whyNoDuel_0 21 rfl rfl)
theorem dX0_whyNoDuel_24 : decode cX0_whyNoDuel 24 = .ok (.bipush 6, 2) := dk_16 6 (dk_at dksX0_whyNoDuel_1 0 rfl rfl)
theorem dX0_whyNoDuel_26 : decode cX0_whyNoDuel 26 = .ok (.goto 4, 3) := dk_167 0 4 (dk_at dksX0_whyNoDuel_1 2 rfl rfl)
theorem dX0_whyNoDuel_29 : decode cX0_whyNoDuel 29 = .ok (.iconst 0, 1) := dk_3 (dk_at dksX0_whyNoDuel_1 5 rfl rfl)
theorem dX0_whyNoDuel_30 : decode cX0_whyNoDuel 30 = .ok (.ireturn, 1) := dk_172 (dk_at dksX0_whyNoDuel_1 6 rfl rfl)
abbrev cX0_areTwo : ByteArray := prog_1_method_23_code
def yX0_areTwo : MethodName := ⟨RX0, "areTwo", "(II)Z"⟩
def dkwX0_areTwo_1 : List UInt8 := [167, 0, 4, 3, 172]
abbrev dktX0_areTwo_1 : List UInt8 := dkwX0_areTwo_1 ++ []
def dkwX0_areTwo_0 : List UInt8 := [42, 27, 182, 0, 174, 153, 0, 20, 42, 28, 182, 0, 174, 153, 0, 12, 27, 28, 159, 0, 7, 4]
abbrev dktX0_areTwo_0 : List UInt8 := dkwX0_areTwo_0 ++ dktX0_areTwo_1
theorem dksX0_areTwo_0 : cX0_areTwo.data.toList.drop 0 = dktX0_areTwo_0 := by decide +kernel
theorem dksX0_areTwo_1 : cX0_areTwo.data.toList.drop 22 = dktX0_areTwo_1 := dk_seg dksX0_areTwo_0 22 rfl rfl
theorem dX0_areTwo_0 : decode cX0_areTwo 0 = .ok (.aload_n 0, 1) := dk_42 (dk_at dksX0_areTwo_0 0 rfl rfl)
theorem dX0_areTwo_1 : decode cX0_areTwo 1 = .ok (.iload_n 1, 1) := dk_27 (dk_at dksX0_areTwo_0 1 rfl rfl)
theorem dX0_areTwo_2 : decode cX0_areTwo 2 = .ok (.invokevirtual 174, 3) := dk_182 0 174 (dk_at dksX0_areTwo_0 2 rfl rfl)
theorem dX0_areTwo_5 : decode cX0_areTwo 5 = .ok (.ifCond .eq 20, 3) := dk_153 0 20 (dk_at dksX0_areTwo_0 5 rfl rfl)
theorem dX0_areTwo_8 : decode cX0_areTwo 8 = .ok (.aload_n 0, 1) := dk_42 (dk_at dksX0_areTwo_0 8 rfl rfl)
theorem dX0_areTwo_9 : decode cX0_areTwo 9 = .ok (.iload_n 2, 1) := dk_28 (dk_at dksX0_areTwo_0 9 rfl rfl)
theorem dX0_areTwo_10 : decode cX0_areTwo 10 = .ok (.invokevirtual 174, 3) := dk_182 0 174 (dk_at dksX0_areTwo_0 10 rfl rfl)
theorem dX0_areTwo_13 : decode cX0_areTwo 13 = .ok (.ifCond .eq 12, 3) := dk_153 0 12 (dk_at dksX0_areTwo_0 13 rfl rfl)
theorem dX0_areTwo_16 : decode cX0_areTwo 16 = .ok (.iload_n 1, 1) := dk_27 (dk_at dksX0_areTwo_0 16 rfl rfl)
theorem dX0_areTwo_17 : decode cX0_areTwo 17 = .ok (.iload_n 2, 1) := dk_28 (dk_at dksX0_areTwo_0 17 rfl rfl)
theorem dX0_areTwo_18 : decode cX0_areTwo 18 = .ok (.if_icmp .eq 7, 3) := dk_159 0 7 (dk_at dksX0_areTwo_0 18 rfl rfl)
theorem dX0_areTwo_21 : decode cX0_areTwo 21 = .ok (.iconst 1, 1) := dk_4 (dk_at dksX0_areTwo_0 21 rfl rfl)
theorem dX0_areTwo_22 : decode cX0_areTwo 22 = .ok (.goto 4, 3) := dk_167 0 4 (dk_at dksX0_areTwo_1 0 rfl rfl)
theorem dX0_areTwo_25 : decode cX0_areTwo 25 = .ok (.iconst 0, 1) := dk_3 (dk_at dksX0_areTwo_1 3 rfl rfl)
theorem dX0_areTwo_26 : decode cX0_areTwo 26 = .ok (.ireturn, 1) := dk_172 (dk_at dksX0_areTwo_1 4 rfl rfl)
abbrev cX0_ending : ByteArray := prog_1_method_56_code
def yX0_ending : MethodName := ⟨RX0, "ending", "(II)J"⟩
def dkwX0_ending_0 : List UInt8 := [17, 1, 0, 42, 27, 182, 1, 19, 180, 1, 23, 42, 28, 182, 1, 19, 180, 1, 23, 104, 100, 133, 173]
abbrev dktX0_ending_0 : List UInt8 := dkwX0_ending_0 ++ []
theorem dksX0_ending_0 : cX0_ending.data.toList.drop 0 = dktX0_ending_0 := by decide +kernel
theorem dX0_ending_0 : decode cX0_ending 0 = .ok (.sipush 256, 3) := dk_17 1 0 (dk_at dksX0_ending_0 0 rfl rfl)
theorem dX0_ending_3 : decode cX0_ending 3 = .ok (.aload_n 0, 1) := dk_42 (dk_at dksX0_ending_0 3 rfl rfl)
theorem dX0_ending_4 : decode cX0_ending 4 = .ok (.iload_n 1, 1) := dk_27 (dk_at dksX0_ending_0 4 rfl rfl)
theorem dX0_ending_5 : decode cX0_ending 5 = .ok (.invokevirtual 275, 3) := dk_182 1 19 (dk_at dksX0_ending_0 5 rfl rfl)
theorem dX0_ending_8 : decode cX0_ending 8 = .ok (.getfield 279, 3) := dk_180 1 23 (dk_at dksX0_ending_0 8 rfl rfl)
theorem dX0_ending_11 : decode cX0_ending 11 = .ok (.aload_n 0, 1) := dk_42 (dk_at dksX0_ending_0 11 rfl rfl)
theorem dX0_ending_12 : decode cX0_ending 12 = .ok (.iload_n 2, 1) := dk_28 (dk_at dksX0_ending_0 12 rfl rfl)
theorem dX0_ending_13 : decode cX0_ending 13 = .ok (.invokevirtual 275, 3) := dk_182 1 19 (dk_at dksX0_ending_0 13 rfl rfl)
theorem dX0_ending_16 : decode cX0_ending 16 = .ok (.getfield 279, 3) := dk_180 1 23 (dk_at dksX0_ending_0 16 rfl rfl)
theorem dX0_ending_19 : decode cX0_ending 19 = .ok (.imul, 1) := dk_104 (dk_at dksX0_ending_0 19 rfl rfl)
theorem dX0_ending_20 : decode cX0_ending 20 = .ok (.isub, 1) := dk_100 (dk_at dksX0_ending_0 20 rfl rfl)
theorem dX0_ending_21 : decode cX0_ending 21 = .ok (.i2l, 1) := dk_133 (dk_at dksX0_ending_0 21 rfl rfl)
theorem dX0_ending_22 : decode cX0_ending 22 = .ok (.lreturn, 1) := dk_173 (dk_at dksX0_ending_0 22 rfl rfl)
abbrev cX0_stays : ByteArray := prog_1_method_57_code
def yX0_stays : MethodName := ⟨RX0, "stays", "(II)J"⟩
def dkwX0_stays_0 : List UInt8 := [42, 27, 182, 1, 19, 180, 1, 23, 133, 16, 16, 42, 28, 182, 1, 19, 180, 1, 23, 100, 133, 105, 173]
abbrev dktX0_stays_0 : List UInt8 := dkwX0_stays_0 ++ []
theorem dksX0_stays_0 : cX0_stays.data.toList.drop 0 = dktX0_stays_0 := by decide +kernel
theorem dX0_stays_0 : decode cX0_stays 0 = .ok (.aload_n 0, 1) := dk_42 (dk_at dksX0_stays_0 0 rfl rfl)
theorem dX0_stays_1 : decode cX0_stays 1 = .ok (.iload_n 1, 1) := dk_27 (dk_at dksX0_stays_0 1 rfl rfl)
theorem dX0_stays_2 : decode cX0_stays 2 = .ok (.invokevirtual 275, 3) := dk_182 1 19 (dk_at dksX0_stays_0 2 rfl rfl)
theorem dX0_stays_5 : decode cX0_stays 5 = .ok (.getfield 279, 3) := dk_180 1 23 (dk_at dksX0_stays_0 5 rfl rfl)
theorem dX0_stays_8 : decode cX0_stays 8 = .ok (.i2l, 1) := dk_133 (dk_at dksX0_stays_0 8 rfl rfl)
theorem dX0_stays_9 : decode cX0_stays 9 = .ok (.bipush 16, 2) := dk_16 16 (dk_at dksX0_stays_0 9 rfl rfl)
theorem dX0_stays_11 : decode cX0_stays 11 = .ok (.aload_n 0, 1) := dk_42 (dk_at dksX0_stays_0 11 rfl rfl)
theorem dX0_stays_12 : decode cX0_stays 12 = .ok (.iload_n 2, 1) := dk_28 (dk_at dksX0_stays_0 12 rfl rfl)
theorem dX0_stays_13 : decode cX0_stays 13 = .ok (.invokevirtual 275, 3) := dk_182 1 19 (dk_at dksX0_stays_0 13 rfl rfl)
theorem dX0_stays_16 : decode cX0_stays 16 = .ok (.getfield 279, 3) := dk_180 1 23 (dk_at dksX0_stays_0 16 rfl rfl)
theorem dX0_stays_19 : decode cX0_stays 19 = .ok (.isub, 1) := dk_100 (dk_at dksX0_stays_0 19 rfl rfl)
theorem dX0_stays_20 : decode cX0_stays 20 = .ok (.i2l, 1) := dk_133 (dk_at dksX0_stays_0 20 rfl rfl)
theorem dX0_stays_21 : decode cX0_stays 21 = .ok (.lmul, 1) := dk_105 (dk_at dksX0_stays_0 21 rfl rfl)
theorem dX0_stays_22 : decode cX0_stays 22 = .ok (.lreturn, 1) := dk_173 (dk_at dksX0_stays_0 22 rfl rfl)
abbrev cX0_fraction : ByteArray := prog_1_method_13_code
def yX0_fraction : MethodName := ⟨RX0, "fraction", "(JJ)I"⟩
def dkwX0_fraction_2 : List UInt8 := [181, 0, 48, 31, 184, 0, 101, 172]
abbrev dktX0_fraction_2 : List UInt8 := dkwX0_fraction_2 ++ []
def dkwX0_fraction_1 : List UInt8 := [22, 7, 55, 5, 22, 9, 55, 7, 167, 255, 234, 42, 31, 22, 5, 109, 181, 0, 85, 42, 33, 22, 5, 109]
abbrev dktX0_fraction_1 : List UInt8 := dkwX0_fraction_1 ++ dktX0_fraction_2
def dkwX0_fraction_0 : List UInt8 := [31, 184, 0, 95, 55, 5, 33, 55, 7, 22, 7, 9, 148, 153, 0, 21, 22, 5, 22, 7, 113, 55, 9]
abbrev dktX0_fraction_0 : List UInt8 := dkwX0_fraction_0 ++ dktX0_fraction_1
theorem dksX0_fraction_0 : cX0_fraction.data.toList.drop 0 = dktX0_fraction_0 := by decide +kernel
theorem dksX0_fraction_1 : cX0_fraction.data.toList.drop 23 = dktX0_fraction_1 := dk_seg dksX0_fraction_0 23 rfl rfl
theorem dksX0_fraction_2 : cX0_fraction.data.toList.drop 47 = dktX0_fraction_2 := dk_seg dksX0_fraction_1 24 rfl rfl
theorem dX0_fraction_0 : decode cX0_fraction 0 = .ok (.lload_n 1, 1) := dk_31 (dk_at dksX0_fraction_0 0 rfl rfl)
theorem dX0_fraction_1 : decode cX0_fraction 1 = .ok (.invokestatic 95, 3) := dk_184 0 95 (dk_at dksX0_fraction_0 1 rfl rfl)
theorem dX0_fraction_4 : decode cX0_fraction 4 = .ok (.lstore 5, 2) := dk_55 5 (dk_at dksX0_fraction_0 4 rfl rfl)
theorem dX0_fraction_6 : decode cX0_fraction 6 = .ok (.lload_n 3, 1) := dk_33 (dk_at dksX0_fraction_0 6 rfl rfl)
theorem dX0_fraction_7 : decode cX0_fraction 7 = .ok (.lstore 7, 2) := dk_55 7 (dk_at dksX0_fraction_0 7 rfl rfl)
theorem dX0_fraction_9 : decode cX0_fraction 9 = .ok (.lload 7, 2) := dk_22 7 (dk_at dksX0_fraction_0 9 rfl rfl)
theorem dX0_fraction_11 : decode cX0_fraction 11 = .ok (.lconst 0, 1) := dk_9 (dk_at dksX0_fraction_0 11 rfl rfl)
theorem dX0_fraction_12 : decode cX0_fraction 12 = .ok (.lcmp, 1) := dk_148 (dk_at dksX0_fraction_0 12 rfl rfl)
theorem dX0_fraction_13 : decode cX0_fraction 13 = .ok (.ifCond .eq 21, 3) := dk_153 0 21 (dk_at dksX0_fraction_0 13 rfl rfl)
theorem dX0_fraction_16 : decode cX0_fraction 16 = .ok (.lload 5, 2) := dk_22 5 (dk_at dksX0_fraction_0 16 rfl rfl)
theorem dX0_fraction_18 : decode cX0_fraction 18 = .ok (.lload 7, 2) := dk_22 7 (dk_at dksX0_fraction_0 18 rfl rfl)
theorem dX0_fraction_20 : decode cX0_fraction 20 = .ok (.lrem, 1) := dk_113 (dk_at dksX0_fraction_0 20 rfl rfl)
theorem dX0_fraction_21 : decode cX0_fraction 21 = .ok (.lstore 9, 2) := dk_55 9 (dk_at dksX0_fraction_0 21 rfl rfl)
theorem dX0_fraction_23 : decode cX0_fraction 23 = .ok (.lload 7, 2) := dk_22 7 (dk_at dksX0_fraction_1 0 rfl rfl)
theorem dX0_fraction_25 : decode cX0_fraction 25 = .ok (.lstore 5, 2) := dk_55 5 (dk_at dksX0_fraction_1 2 rfl rfl)
theorem dX0_fraction_27 : decode cX0_fraction 27 = .ok (.lload 9, 2) := dk_22 9 (dk_at dksX0_fraction_1 4 rfl rfl)
theorem dX0_fraction_29 : decode cX0_fraction 29 = .ok (.lstore 7, 2) := dk_55 7 (dk_at dksX0_fraction_1 6 rfl rfl)
theorem dX0_fraction_31 : decode cX0_fraction 31 = .ok (.goto (-22), 3) := dk_167 255 234 (dk_at dksX0_fraction_1 8 rfl rfl)
theorem dX0_fraction_34 : decode cX0_fraction 34 = .ok (.aload_n 0, 1) := dk_42 (dk_at dksX0_fraction_1 11 rfl rfl)
theorem dX0_fraction_35 : decode cX0_fraction 35 = .ok (.lload_n 1, 1) := dk_31 (dk_at dksX0_fraction_1 12 rfl rfl)
theorem dX0_fraction_36 : decode cX0_fraction 36 = .ok (.lload 5, 2) := dk_22 5 (dk_at dksX0_fraction_1 13 rfl rfl)
theorem dX0_fraction_38 : decode cX0_fraction 38 = .ok (.ldiv, 1) := dk_109 (dk_at dksX0_fraction_1 15 rfl rfl)
theorem dX0_fraction_39 : decode cX0_fraction 39 = .ok (.putfield 85, 3) := dk_181 0 85 (dk_at dksX0_fraction_1 16 rfl rfl)
theorem dX0_fraction_42 : decode cX0_fraction 42 = .ok (.aload_n 0, 1) := dk_42 (dk_at dksX0_fraction_1 19 rfl rfl)
theorem dX0_fraction_43 : decode cX0_fraction 43 = .ok (.lload_n 3, 1) := dk_33 (dk_at dksX0_fraction_1 20 rfl rfl)
theorem dX0_fraction_44 : decode cX0_fraction 44 = .ok (.lload 5, 2) := dk_22 5 (dk_at dksX0_fraction_1 21 rfl rfl)
theorem dX0_fraction_46 : decode cX0_fraction 46 = .ok (.ldiv, 1) := dk_109 (dk_at dksX0_fraction_1 23 rfl rfl)
theorem dX0_fraction_47 : decode cX0_fraction 47 = .ok (.putfield 48, 3) := dk_181 0 48 (dk_at dksX0_fraction_2 0 rfl rfl)
theorem dX0_fraction_50 : decode cX0_fraction 50 = .ok (.lload_n 1, 1) := dk_31 (dk_at dksX0_fraction_2 3 rfl rfl)
theorem dX0_fraction_51 : decode cX0_fraction 51 = .ok (.invokestatic 101, 3) := dk_184 0 101 (dk_at dksX0_fraction_2 4 rfl rfl)
theorem dX0_fraction_54 : decode cX0_fraction 54 = .ok (.ireturn, 1) := dk_172 (dk_at dksX0_fraction_2 7 rfl rfl)
abbrev cX0_goes : ByteArray := prog_1_method_60_code
def yX0_goes : MethodName := ⟨RX0, "goes", "(II)Z"⟩
def dkwX0_goes_2 : List UInt8 := [154, 0, 7, 4, 167, 0, 4, 3, 172]
abbrev dktX0_goes_2 : List UInt8 := dkwX0_goes_2 ++ []
def dkwX0_goes_1 : List UInt8 := [27, 182, 1, 19, 180, 1, 23, 96, 133, 105, 42, 27, 28, 182, 1, 98, 182, 1, 108, 87, 42, 180, 0, 82]
abbrev dktX0_goes_1 : List UInt8 := dkwX0_goes_1 ++ dktX0_goes_2
def dkwX0_goes_0 : List UInt8 := [42, 42, 27, 28, 182, 1, 102, 181, 0, 82, 42, 180, 0, 82, 154, 0, 30, 42, 20, 1, 112, 16, 16, 42]
abbrev dktX0_goes_0 : List UInt8 := dkwX0_goes_0 ++ dktX0_goes_1
theorem dksX0_goes_0 : cX0_goes.data.toList.drop 0 = dktX0_goes_0 := by decide +kernel
theorem dksX0_goes_1 : cX0_goes.data.toList.drop 24 = dktX0_goes_1 := dk_seg dksX0_goes_0 24 rfl rfl
theorem dksX0_goes_2 : cX0_goes.data.toList.drop 48 = dktX0_goes_2 := dk_seg dksX0_goes_1 24 rfl rfl
theorem dX0_goes_0 : decode cX0_goes 0 = .ok (.aload_n 0, 1) := dk_42 (dk_at dksX0_goes_0 0 rfl rfl)
theorem dX0_goes_1 : decode cX0_goes 1 = .ok (.aload_n 0, 1) := dk_42 (dk_at dksX0_goes_0 1 rfl rfl)
theorem dX0_goes_2 : decode cX0_goes 2 = .ok (.iload_n 1, 1) := dk_27 (dk_at dksX0_goes_0 2 rfl rfl)
theorem dX0_goes_3 : decode cX0_goes 3 = .ok (.iload_n 2, 1) := dk_28 (dk_at dksX0_goes_0 3 rfl rfl)
theorem dX0_goes_4 : decode cX0_goes 4 = .ok (.invokevirtual 358, 3) := dk_182 1 102 (dk_at dksX0_goes_0 4 rfl rfl)
theorem dX0_goes_7 : decode cX0_goes 7 = .ok (.putfield 82, 3) := dk_181 0 82 (dk_at dksX0_goes_0 7 rfl rfl)
theorem dX0_goes_10 : decode cX0_goes 10 = .ok (.aload_n 0, 1) := dk_42 (dk_at dksX0_goes_0 10 rfl rfl)
theorem dX0_goes_11 : decode cX0_goes 11 = .ok (.getfield 82, 3) := dk_180 0 82 (dk_at dksX0_goes_0 11 rfl rfl)
theorem dX0_goes_14 : decode cX0_goes 14 = .ok (.ifCond .ne 30, 3) := dk_154 0 30 (dk_at dksX0_goes_0 14 rfl rfl)
theorem dX0_goes_17 : decode cX0_goes 17 = .ok (.aload_n 0, 1) := dk_42 (dk_at dksX0_goes_0 17 rfl rfl)
theorem dX0_goes_18 : decode cX0_goes 18 = .ok (.ldc2_w 368, 3) := dk_20 1 112 (dk_at dksX0_goes_0 18 rfl rfl)
theorem dX0_goes_21 : decode cX0_goes 21 = .ok (.bipush 16, 2) := dk_16 16 (dk_at dksX0_goes_0 21 rfl rfl)
theorem dX0_goes_23 : decode cX0_goes 23 = .ok (.aload_n 0, 1) := dk_42 (dk_at dksX0_goes_0 23 rfl rfl)
theorem dX0_goes_24 : decode cX0_goes 24 = .ok (.iload_n 1, 1) := dk_27 (dk_at dksX0_goes_1 0 rfl rfl)
theorem dX0_goes_25 : decode cX0_goes 25 = .ok (.invokevirtual 275, 3) := dk_182 1 19 (dk_at dksX0_goes_1 1 rfl rfl)
theorem dX0_goes_28 : decode cX0_goes 28 = .ok (.getfield 279, 3) := dk_180 1 23 (dk_at dksX0_goes_1 4 rfl rfl)
theorem dX0_goes_31 : decode cX0_goes 31 = .ok (.iadd, 1) := dk_96 (dk_at dksX0_goes_1 7 rfl rfl)
theorem dX0_goes_32 : decode cX0_goes 32 = .ok (.i2l, 1) := dk_133 (dk_at dksX0_goes_1 8 rfl rfl)
theorem dX0_goes_33 : decode cX0_goes 33 = .ok (.lmul, 1) := dk_105 (dk_at dksX0_goes_1 9 rfl rfl)
theorem dX0_goes_34 : decode cX0_goes 34 = .ok (.aload_n 0, 1) := dk_42 (dk_at dksX0_goes_1 10 rfl rfl)
theorem dX0_goes_35 : decode cX0_goes 35 = .ok (.iload_n 1, 1) := dk_27 (dk_at dksX0_goes_1 11 rfl rfl)
theorem dX0_goes_36 : decode cX0_goes 36 = .ok (.iload_n 2, 1) := dk_28 (dk_at dksX0_goes_1 12 rfl rfl)
theorem dX0_goes_37 : decode cX0_goes 37 = .ok (.invokevirtual 354, 3) := dk_182 1 98 (dk_at dksX0_goes_1 13 rfl rfl)
theorem dX0_goes_40 : decode cX0_goes 40 = .ok (.invokevirtual 364, 3) := dk_182 1 108 (dk_at dksX0_goes_1 16 rfl rfl)
theorem dX0_goes_43 : decode cX0_goes 43 = .ok (.pop, 1) := dk_87 (dk_at dksX0_goes_1 19 rfl rfl)
theorem dX0_goes_44 : decode cX0_goes 44 = .ok (.aload_n 0, 1) := dk_42 (dk_at dksX0_goes_1 20 rfl rfl)
theorem dX0_goes_45 : decode cX0_goes 45 = .ok (.getfield 82, 3) := dk_180 0 82 (dk_at dksX0_goes_1 21 rfl rfl)
theorem dX0_goes_48 : decode cX0_goes 48 = .ok (.ifCond .ne 7, 3) := dk_154 0 7 (dk_at dksX0_goes_2 0 rfl rfl)
theorem dX0_goes_51 : decode cX0_goes 51 = .ok (.iconst 1, 1) := dk_4 (dk_at dksX0_goes_2 3 rfl rfl)
theorem dX0_goes_52 : decode cX0_goes 52 = .ok (.goto 4, 3) := dk_167 0 4 (dk_at dksX0_goes_2 4 rfl rfl)
theorem dX0_goes_55 : decode cX0_goes 55 = .ok (.iconst 0, 1) := dk_3 (dk_at dksX0_goes_2 7 rfl rfl)
theorem dX0_goes_56 : decode cX0_goes 56 = .ok (.ireturn, 1) := dk_172 (dk_at dksX0_goes_2 8 rfl rfl)
abbrev cX0_trio : ByteArray := prog_1_method_62_code
def yX0_trio : MethodName := ⟨RX0, "trio", "(IIII)Z"⟩
def dkwX0_trio_15 : List UInt8 := [27, 182, 1, 98, 105, 182, 1, 108, 87, 4, 172]
abbrev dktX0_trio_15 : List UInt8 := dkwX0_trio_15 ++ []
def dkwX0_trio_14 : List UInt8 := [27, 182, 1, 105, 105, 42, 28, 29, 182, 1, 98, 105, 97, 22, 11, 42, 28, 29, 182, 1, 98, 105, 42, 29]
abbrev dktX0_trio_14 : List UInt8 := dkwX0_trio_14 ++ dktX0_trio_15
def dkwX0_trio_13 : List UInt8 := [28, 29, 182, 1, 98, 42, 28, 29, 182, 1, 105, 101, 105, 42, 29, 27, 182, 1, 98, 105, 22, 15, 42, 29]
abbrev dktX0_trio_13 : List UInt8 := dkwX0_trio_13 ++ dktX0_trio_14
def dkwX0_trio_12 : List UInt8 := [27, 28, 182, 1, 98, 105, 42, 28, 29, 182, 1, 98, 105, 182, 1, 108, 87, 167, 0, 64, 42, 22, 13, 42]
abbrev dktX0_trio_12 : List UInt8 := dkwX0_trio_12 ++ dktX0_trio_13
def dkwX0_trio_11 : List UInt8 := [182, 1, 98, 105, 22, 13, 42, 28, 29, 182, 1, 105, 105, 42, 27, 28, 182, 1, 98, 105, 97, 22, 11, 42]
abbrev dktX0_trio_11 : List UInt8 := dkwX0_trio_11 ++ dktX0_trio_12
def dkwX0_trio_10 : List UInt8 := [160, 0, 67, 42, 22, 17, 42, 27, 28, 182, 1, 98, 42, 27, 28, 182, 1, 105, 101, 105, 42, 28, 29]
abbrev dktX0_trio_10 : List UInt8 := dkwX0_trio_10 ++ dktX0_trio_11
def dkwX0_trio_9 : List UInt8 := [42, 29, 27, 182, 1, 98, 105, 42, 27, 28, 182, 1, 98, 105, 182, 1, 108, 87, 167, 0, 134, 21, 4, 4]
abbrev dktX0_trio_9 : List UInt8 := dkwX0_trio_9 ++ dktX0_trio_10
def dkwX0_trio_8 : List UInt8 := [28, 182, 1, 98, 105, 22, 17, 42, 27, 28, 182, 1, 105, 105, 42, 29, 27, 182, 1, 98, 105, 97, 22, 11]
abbrev dktX0_trio_8 : List UInt8 := dkwX0_trio_8 ++ dktX0_trio_9
def dkwX0_trio_7 : List UInt8 := [21, 4, 154, 0, 67, 42, 22, 15, 42, 29, 27, 182, 1, 98, 42, 29, 27, 182, 1, 105, 101, 105, 42, 27]
abbrev dktX0_trio_7 : List UInt8 := dkwX0_trio_7 ++ dktX0_trio_8
def dkwX0_trio_6 : List UInt8 := [22, 7, 101, 105, 20, 1, 112, 105, 55, 15, 22, 5, 22, 7, 105, 20, 1, 112, 22, 9, 101, 105, 55, 17]
abbrev dktX0_trio_6 : List UInt8 := dkwX0_trio_6 ++ dktX0_trio_7
def dkwX0_trio_5 : List UInt8 := [105, 22, 9, 105, 101, 55, 11, 20, 1, 112, 22, 5, 101, 20, 1, 120, 105, 55, 13, 22, 5, 20, 1, 112]
abbrev dktX0_trio_5 : List UInt8 := dkwX0_trio_5 ++ dktX0_trio_6
def dkwX0_trio_4 : List UInt8 := [180, 1, 23, 133, 55, 7, 42, 29, 182, 1, 19, 180, 1, 23, 133, 55, 9, 20, 1, 118, 22, 5, 22, 7]
abbrev dktX0_trio_4 : List UInt8 := dkwX0_trio_4 ++ dktX0_trio_5
def dkwX0_trio_3 : List UInt8 := [180, 0, 82, 158, 0, 5, 3, 172, 42, 27, 182, 1, 19, 180, 1, 23, 133, 55, 5, 42, 28, 182, 1, 19]
abbrev dktX0_trio_3 : List UInt8 := dkwX0_trio_3 ++ dktX0_trio_4
def dkwX0_trio_2 : List UInt8 := [153, 0, 14, 42, 29, 27, 182, 1, 98, 9, 148, 154, 0, 8, 16, 6, 167, 0, 4, 3, 181, 0, 82, 42]
abbrev dktX0_trio_2 : List UInt8 := dkwX0_trio_2 ++ dktX0_trio_3
def dkwX0_trio_1 : List UInt8 := [4, 167, 0, 42, 42, 27, 28, 182, 1, 98, 9, 148, 153, 0, 25, 42, 28, 29, 182, 1, 98, 9, 148]
abbrev dktX0_trio_1 : List UInt8 := dkwX0_trio_1 ++ dktX0_trio_2
def dkwX0_trio_0 : List UInt8 := [42, 42, 27, 28, 29, 182, 1, 114, 153, 0, 16, 21, 4, 133, 9, 20, 0, 178, 184, 0, 170, 154, 0, 7]
abbrev dktX0_trio_0 : List UInt8 := dkwX0_trio_0 ++ dktX0_trio_1
theorem dksX0_trio_0 : cX0_trio.data.toList.drop 0 = dktX0_trio_0 := by decide +kernel
theorem dksX0_trio_1 : cX0_trio.data.toList.drop 24 = dktX0_trio_1 := dk_seg dksX0_trio_0 24 rfl rfl
theorem dksX0_trio_2 : cX0_trio.data.toList.drop 47 = dktX0_trio_2 := dk_seg dksX0_trio_1 23 rfl rfl
theorem dksX0_trio_3 : cX0_trio.data.toList.drop 71 = dktX0_trio_3 := dk_seg dksX0_trio_2 24 rfl rfl
theorem dksX0_trio_4 : cX0_trio.data.toList.drop 95 = dktX0_trio_4 := dk_seg dksX0_trio_3 24 rfl rfl
theorem dksX0_trio_5 : cX0_trio.data.toList.drop 119 = dktX0_trio_5 := dk_seg dksX0_trio_4 24 rfl rfl
theorem dksX0_trio_6 : cX0_trio.data.toList.drop 143 = dktX0_trio_6 := dk_seg dksX0_trio_5 24 rfl rfl
theorem dksX0_trio_7 : cX0_trio.data.toList.drop 167 = dktX0_trio_7 := dk_seg dksX0_trio_6 24 rfl rfl
theorem dksX0_trio_8 : cX0_trio.data.toList.drop 191 = dktX0_trio_8 := dk_seg dksX0_trio_7 24 rfl rfl
theorem dksX0_trio_9 : cX0_trio.data.toList.drop 215 = dktX0_trio_9 := dk_seg dksX0_trio_8 24 rfl rfl
theorem dksX0_trio_10 : cX0_trio.data.toList.drop 239 = dktX0_trio_10 := dk_seg dksX0_trio_9 24 rfl rfl
theorem dksX0_trio_11 : cX0_trio.data.toList.drop 262 = dktX0_trio_11 := dk_seg dksX0_trio_10 23 rfl rfl
theorem dksX0_trio_12 : cX0_trio.data.toList.drop 286 = dktX0_trio_12 := dk_seg dksX0_trio_11 24 rfl rfl
theorem dksX0_trio_13 : cX0_trio.data.toList.drop 310 = dktX0_trio_13 := dk_seg dksX0_trio_12 24 rfl rfl
theorem dksX0_trio_14 : cX0_trio.data.toList.drop 334 = dktX0_trio_14 := dk_seg dksX0_trio_13 24 rfl rfl
theorem dksX0_trio_15 : cX0_trio.data.toList.drop 358 = dktX0_trio_15 := dk_seg dksX0_trio_14 24 rfl rfl
theorem dX0_trio_0 : decode cX0_trio 0 = .ok (.aload_n 0, 1) := dk_42 (dk_at dksX0_trio_0 0 rfl rfl)
theorem dX0_trio_1 : decode cX0_trio 1 = .ok (.aload_n 0, 1) := dk_42 (dk_at dksX0_trio_0 1 rfl rfl)
theorem dX0_trio_2 : decode cX0_trio 2 = .ok (.iload_n 1, 1) := dk_27 (dk_at dksX0_trio_0 2 rfl rfl)
theorem dX0_trio_3 : decode cX0_trio 3 = .ok (.iload_n 2, 1) := dk_28 (dk_at dksX0_trio_0 3 rfl rfl)
theorem dX0_trio_4 : decode cX0_trio 4 = .ok (.iload_n 3, 1) := dk_29 (dk_at dksX0_trio_0 4 rfl rfl)
theorem dX0_trio_5 : decode cX0_trio 5 = .ok (.invokevirtual 370, 3) := dk_182 1 114 (dk_at dksX0_trio_0 5 rfl rfl)
theorem dX0_trio_8 : decode cX0_trio 8 = .ok (.ifCond .eq 16, 3) := dk_153 0 16 (dk_at dksX0_trio_0 8 rfl rfl)
theorem dX0_trio_11 : decode cX0_trio 11 = .ok (.iload 4, 2) := dk_21 4 (dk_at dksX0_trio_0 11 rfl rfl)
theorem dX0_trio_13 : decode cX0_trio 13 = .ok (.i2l, 1) := dk_133 (dk_at dksX0_trio_0 13 rfl rfl)
theorem dX0_trio_14 : decode cX0_trio 14 = .ok (.lconst 0, 1) := dk_9 (dk_at dksX0_trio_0 14 rfl rfl)
theorem dX0_trio_15 : decode cX0_trio 15 = .ok (.ldc2_w 178, 3) := dk_20 0 178 (dk_at dksX0_trio_0 15 rfl rfl)
theorem dX0_trio_18 : decode cX0_trio 18 = .ok (.invokestatic 170, 3) := dk_184 0 170 (dk_at dksX0_trio_0 18 rfl rfl)
theorem dX0_trio_21 : decode cX0_trio 21 = .ok (.ifCond .ne 7, 3) := dk_154 0 7 (dk_at dksX0_trio_0 21 rfl rfl)
theorem dX0_trio_24 : decode cX0_trio 24 = .ok (.iconst 1, 1) := dk_4 (dk_at dksX0_trio_1 0 rfl rfl)
theorem dX0_trio_25 : decode cX0_trio 25 = .ok (.goto 42, 3) := dk_167 0 42 (dk_at dksX0_trio_1 1 rfl rfl)
theorem dX0_trio_28 : decode cX0_trio 28 = .ok (.aload_n 0, 1) := dk_42 (dk_at dksX0_trio_1 4 rfl rfl)
theorem dX0_trio_29 : decode cX0_trio 29 = .ok (.iload_n 1, 1) := dk_27 (dk_at dksX0_trio_1 5 rfl rfl)
theorem dX0_trio_30 : decode cX0_trio 30 = .ok (.iload_n 2, 1) := dk_28 (dk_at dksX0_trio_1 6 rfl rfl)
theorem dX0_trio_31 : decode cX0_trio 31 = .ok (.invokevirtual 354, 3) := dk_182 1 98 (dk_at dksX0_trio_1 7 rfl rfl)
theorem dX0_trio_34 : decode cX0_trio 34 = .ok (.lconst 0, 1) := dk_9 (dk_at dksX0_trio_1 10 rfl rfl)
theorem dX0_trio_35 : decode cX0_trio 35 = .ok (.lcmp, 1) := dk_148 (dk_at dksX0_trio_1 11 rfl rfl)
theorem dX0_trio_36 : decode cX0_trio 36 = .ok (.ifCond .eq 25, 3) := dk_153 0 25 (dk_at dksX0_trio_1 12 rfl rfl)
theorem dX0_trio_39 : decode cX0_trio 39 = .ok (.aload_n 0, 1) := dk_42 (dk_at dksX0_trio_1 15 rfl rfl)
theorem dX0_trio_40 : decode cX0_trio 40 = .ok (.iload_n 2, 1) := dk_28 (dk_at dksX0_trio_1 16 rfl rfl)
theorem dX0_trio_41 : decode cX0_trio 41 = .ok (.iload_n 3, 1) := dk_29 (dk_at dksX0_trio_1 17 rfl rfl)
theorem dX0_trio_42 : decode cX0_trio 42 = .ok (.invokevirtual 354, 3) := dk_182 1 98 (dk_at dksX0_trio_1 18 rfl rfl)
theorem dX0_trio_45 : decode cX0_trio 45 = .ok (.lconst 0, 1) := dk_9 (dk_at dksX0_trio_1 21 rfl rfl)
theorem dX0_trio_46 : decode cX0_trio 46 = .ok (.lcmp, 1) := dk_148 (dk_at dksX0_trio_1 22 rfl rfl)
theorem dX0_trio_47 : decode cX0_trio 47 = .ok (.ifCond .eq 14, 3) := dk_153 0 14 (dk_at dksX0_trio_2 0 rfl rfl)
theorem dX0_trio_50 : decode cX0_trio 50 = .ok (.aload_n 0, 1) := dk_42 (dk_at dksX0_trio_2 3 rfl rfl)
theorem dX0_trio_51 : decode cX0_trio 51 = .ok (.iload_n 3, 1) := dk_29 (dk_at dksX0_trio_2 4 rfl rfl)
theorem dX0_trio_52 : decode cX0_trio 52 = .ok (.iload_n 1, 1) := dk_27 (dk_at dksX0_trio_2 5 rfl rfl)
theorem dX0_trio_53 : decode cX0_trio 53 = .ok (.invokevirtual 354, 3) := dk_182 1 98 (dk_at dksX0_trio_2 6 rfl rfl)
theorem dX0_trio_56 : decode cX0_trio 56 = .ok (.lconst 0, 1) := dk_9 (dk_at dksX0_trio_2 9 rfl rfl)
theorem dX0_trio_57 : decode cX0_trio 57 = .ok (.lcmp, 1) := dk_148 (dk_at dksX0_trio_2 10 rfl rfl)
theorem dX0_trio_58 : decode cX0_trio 58 = .ok (.ifCond .ne 8, 3) := dk_154 0 8 (dk_at dksX0_trio_2 11 rfl rfl)
theorem dX0_trio_61 : decode cX0_trio 61 = .ok (.bipush 6, 2) := dk_16 6 (dk_at dksX0_trio_2 14 rfl rfl)
theorem dX0_trio_63 : decode cX0_trio 63 = .ok (.goto 4, 3) := dk_167 0 4 (dk_at dksX0_trio_2 16 rfl rfl)
theorem dX0_trio_66 : decode cX0_trio 66 = .ok (.iconst 0, 1) := dk_3 (dk_at dksX0_trio_2 19 rfl rfl)
theorem dX0_trio_67 : decode cX0_trio 67 = .ok (.putfield 82, 3) := dk_181 0 82 (dk_at dksX0_trio_2 20 rfl rfl)
theorem dX0_trio_70 : decode cX0_trio 70 = .ok (.aload_n 0, 1) := dk_42 (dk_at dksX0_trio_2 23 rfl rfl)
theorem dX0_trio_71 : decode cX0_trio 71 = .ok (.getfield 82, 3) := dk_180 0 82 (dk_at dksX0_trio_3 0 rfl rfl)
theorem dX0_trio_74 : decode cX0_trio 74 = .ok (.ifCond .le 5, 3) := dk_158 0 5 (dk_at dksX0_trio_3 3 rfl rfl)
theorem dX0_trio_77 : decode cX0_trio 77 = .ok (.iconst 0, 1) := dk_3 (dk_at dksX0_trio_3 6 rfl rfl)
theorem dX0_trio_78 : decode cX0_trio 78 = .ok (.ireturn, 1) := dk_172 (dk_at dksX0_trio_3 7 rfl rfl)
theorem dX0_trio_79 : decode cX0_trio 79 = .ok (.aload_n 0, 1) := dk_42 (dk_at dksX0_trio_3 8 rfl rfl)
theorem dX0_trio_80 : decode cX0_trio 80 = .ok (.iload_n 1, 1) := dk_27 (dk_at dksX0_trio_3 9 rfl rfl)
theorem dX0_trio_81 : decode cX0_trio 81 = .ok (.invokevirtual 275, 3) := dk_182 1 19 (dk_at dksX0_trio_3 10 rfl rfl)
theorem dX0_trio_84 : decode cX0_trio 84 = .ok (.getfield 279, 3) := dk_180 1 23 (dk_at dksX0_trio_3 13 rfl rfl)
theorem dX0_trio_87 : decode cX0_trio 87 = .ok (.i2l, 1) := dk_133 (dk_at dksX0_trio_3 16 rfl rfl)
theorem dX0_trio_88 : decode cX0_trio 88 = .ok (.lstore 5, 2) := dk_55 5 (dk_at dksX0_trio_3 17 rfl rfl)
theorem dX0_trio_90 : decode cX0_trio 90 = .ok (.aload_n 0, 1) := dk_42 (dk_at dksX0_trio_3 19 rfl rfl)
theorem dX0_trio_91 : decode cX0_trio 91 = .ok (.iload_n 2, 1) := dk_28 (dk_at dksX0_trio_3 20 rfl rfl)
theorem dX0_trio_92 : decode cX0_trio 92 = .ok (.invokevirtual 275, 3) := dk_182 1 19 (dk_at dksX0_trio_3 21 rfl rfl)
theorem dX0_trio_95 : decode cX0_trio 95 = .ok (.getfield 279, 3) := dk_180 1 23 (dk_at dksX0_trio_4 0 rfl rfl)
theorem dX0_trio_98 : decode cX0_trio 98 = .ok (.i2l, 1) := dk_133 (dk_at dksX0_trio_4 3 rfl rfl)
theorem dX0_trio_99 : decode cX0_trio 99 = .ok (.lstore 7, 2) := dk_55 7 (dk_at dksX0_trio_4 4 rfl rfl)
theorem dX0_trio_101 : decode cX0_trio 101 = .ok (.aload_n 0, 1) := dk_42 (dk_at dksX0_trio_4 6 rfl rfl)
theorem dX0_trio_102 : decode cX0_trio 102 = .ok (.iload_n 3, 1) := dk_29 (dk_at dksX0_trio_4 7 rfl rfl)
theorem dX0_trio_103 : decode cX0_trio 103 = .ok (.invokevirtual 275, 3) := dk_182 1 19 (dk_at dksX0_trio_4 8 rfl rfl)
theorem dX0_trio_106 : decode cX0_trio 106 = .ok (.getfield 279, 3) := dk_180 1 23 (dk_at dksX0_trio_4 11 rfl rfl)
theorem dX0_trio_109 : decode cX0_trio 109 = .ok (.i2l, 1) := dk_133 (dk_at dksX0_trio_4 14 rfl rfl)
theorem dX0_trio_110 : decode cX0_trio 110 = .ok (.lstore 9, 2) := dk_55 9 (dk_at dksX0_trio_4 15 rfl rfl)
theorem dX0_trio_112 : decode cX0_trio 112 = .ok (.ldc2_w 374, 3) := dk_20 1 118 (dk_at dksX0_trio_4 17 rfl rfl)
theorem dX0_trio_115 : decode cX0_trio 115 = .ok (.lload 5, 2) := dk_22 5 (dk_at dksX0_trio_4 20 rfl rfl)
theorem dX0_trio_117 : decode cX0_trio 117 = .ok (.lload 7, 2) := dk_22 7 (dk_at dksX0_trio_4 22 rfl rfl)
theorem dX0_trio_119 : decode cX0_trio 119 = .ok (.lmul, 1) := dk_105 (dk_at dksX0_trio_5 0 rfl rfl)
theorem dX0_trio_120 : decode cX0_trio 120 = .ok (.lload 9, 2) := dk_22 9 (dk_at dksX0_trio_5 1 rfl rfl)
theorem dX0_trio_122 : decode cX0_trio 122 = .ok (.lmul, 1) := dk_105 (dk_at dksX0_trio_5 3 rfl rfl)
theorem dX0_trio_123 : decode cX0_trio 123 = .ok (.lsub, 1) := dk_101 (dk_at dksX0_trio_5 4 rfl rfl)
theorem dX0_trio_124 : decode cX0_trio 124 = .ok (.lstore 11, 2) := dk_55 11 (dk_at dksX0_trio_5 5 rfl rfl)
theorem dX0_trio_126 : decode cX0_trio 126 = .ok (.ldc2_w 368, 3) := dk_20 1 112 (dk_at dksX0_trio_5 7 rfl rfl)
theorem dX0_trio_129 : decode cX0_trio 129 = .ok (.lload 5, 2) := dk_22 5 (dk_at dksX0_trio_5 10 rfl rfl)
theorem dX0_trio_131 : decode cX0_trio 131 = .ok (.lsub, 1) := dk_101 (dk_at dksX0_trio_5 12 rfl rfl)
theorem dX0_trio_132 : decode cX0_trio 132 = .ok (.ldc2_w 376, 3) := dk_20 1 120 (dk_at dksX0_trio_5 13 rfl rfl)
theorem dX0_trio_135 : decode cX0_trio 135 = .ok (.lmul, 1) := dk_105 (dk_at dksX0_trio_5 16 rfl rfl)
theorem dX0_trio_136 : decode cX0_trio 136 = .ok (.lstore 13, 2) := dk_55 13 (dk_at dksX0_trio_5 17 rfl rfl)
theorem dX0_trio_138 : decode cX0_trio 138 = .ok (.lload 5, 2) := dk_22 5 (dk_at dksX0_trio_5 19 rfl rfl)
theorem dX0_trio_140 : decode cX0_trio 140 = .ok (.ldc2_w 368, 3) := dk_20 1 112 (dk_at dksX0_trio_5 21 rfl rfl)
theorem dX0_trio_143 : decode cX0_trio 143 = .ok (.lload 7, 2) := dk_22 7 (dk_at dksX0_trio_6 0 rfl rfl)
theorem dX0_trio_145 : decode cX0_trio 145 = .ok (.lsub, 1) := dk_101 (dk_at dksX0_trio_6 2 rfl rfl)
theorem dX0_trio_146 : decode cX0_trio 146 = .ok (.lmul, 1) := dk_105 (dk_at dksX0_trio_6 3 rfl rfl)
theorem dX0_trio_147 : decode cX0_trio 147 = .ok (.ldc2_w 368, 3) := dk_20 1 112 (dk_at dksX0_trio_6 4 rfl rfl)
theorem dX0_trio_150 : decode cX0_trio 150 = .ok (.lmul, 1) := dk_105 (dk_at dksX0_trio_6 7 rfl rfl)
theorem dX0_trio_151 : decode cX0_trio 151 = .ok (.lstore 15, 2) := dk_55 15 (dk_at dksX0_trio_6 8 rfl rfl)
theorem dX0_trio_153 : decode cX0_trio 153 = .ok (.lload 5, 2) := dk_22 5 (dk_at dksX0_trio_6 10 rfl rfl)
theorem dX0_trio_155 : decode cX0_trio 155 = .ok (.lload 7, 2) := dk_22 7 (dk_at dksX0_trio_6 12 rfl rfl)
theorem dX0_trio_157 : decode cX0_trio 157 = .ok (.lmul, 1) := dk_105 (dk_at dksX0_trio_6 14 rfl rfl)
theorem dX0_trio_158 : decode cX0_trio 158 = .ok (.ldc2_w 368, 3) := dk_20 1 112 (dk_at dksX0_trio_6 15 rfl rfl)
theorem dX0_trio_161 : decode cX0_trio 161 = .ok (.lload 9, 2) := dk_22 9 (dk_at dksX0_trio_6 18 rfl rfl)
theorem dX0_trio_163 : decode cX0_trio 163 = .ok (.lsub, 1) := dk_101 (dk_at dksX0_trio_6 20 rfl rfl)
theorem dX0_trio_164 : decode cX0_trio 164 = .ok (.lmul, 1) := dk_105 (dk_at dksX0_trio_6 21 rfl rfl)
theorem dX0_trio_165 : decode cX0_trio 165 = .ok (.lstore 17, 2) := dk_55 17 (dk_at dksX0_trio_6 22 rfl rfl)
theorem dX0_trio_167 : decode cX0_trio 167 = .ok (.iload 4, 2) := dk_21 4 (dk_at dksX0_trio_7 0 rfl rfl)
theorem dX0_trio_169 : decode cX0_trio 169 = .ok (.ifCond .ne 67, 3) := dk_154 0 67 (dk_at dksX0_trio_7 2 rfl rfl)
theorem dX0_trio_172 : decode cX0_trio 172 = .ok (.aload_n 0, 1) := dk_42 (dk_at dksX0_trio_7 5 rfl rfl)
theorem dX0_trio_173 : decode cX0_trio 173 = .ok (.lload 15, 2) := dk_22 15 (dk_at dksX0_trio_7 6 rfl rfl)
theorem dX0_trio_175 : decode cX0_trio 175 = .ok (.aload_n 0, 1) := dk_42 (dk_at dksX0_trio_7 8 rfl rfl)
theorem dX0_trio_176 : decode cX0_trio 176 = .ok (.iload_n 3, 1) := dk_29 (dk_at dksX0_trio_7 9 rfl rfl)
theorem dX0_trio_177 : decode cX0_trio 177 = .ok (.iload_n 1, 1) := dk_27 (dk_at dksX0_trio_7 10 rfl rfl)
theorem dX0_trio_178 : decode cX0_trio 178 = .ok (.invokevirtual 354, 3) := dk_182 1 98 (dk_at dksX0_trio_7 11 rfl rfl)
theorem dX0_trio_181 : decode cX0_trio 181 = .ok (.aload_n 0, 1) := dk_42 (dk_at dksX0_trio_7 14 rfl rfl)
theorem dX0_trio_182 : decode cX0_trio 182 = .ok (.iload_n 3, 1) := dk_29 (dk_at dksX0_trio_7 15 rfl rfl)
theorem dX0_trio_183 : decode cX0_trio 183 = .ok (.iload_n 1, 1) := dk_27 (dk_at dksX0_trio_7 16 rfl rfl)
theorem dX0_trio_184 : decode cX0_trio 184 = .ok (.invokevirtual 361, 3) := dk_182 1 105 (dk_at dksX0_trio_7 17 rfl rfl)
theorem dX0_trio_187 : decode cX0_trio 187 = .ok (.lsub, 1) := dk_101 (dk_at dksX0_trio_7 20 rfl rfl)
theorem dX0_trio_188 : decode cX0_trio 188 = .ok (.lmul, 1) := dk_105 (dk_at dksX0_trio_7 21 rfl rfl)
theorem dX0_trio_189 : decode cX0_trio 189 = .ok (.aload_n 0, 1) := dk_42 (dk_at dksX0_trio_7 22 rfl rfl)
theorem dX0_trio_190 : decode cX0_trio 190 = .ok (.iload_n 1, 1) := dk_27 (dk_at dksX0_trio_7 23 rfl rfl)
theorem dX0_trio_191 : decode cX0_trio 191 = .ok (.iload_n 2, 1) := dk_28 (dk_at dksX0_trio_8 0 rfl rfl)
theorem dX0_trio_192 : decode cX0_trio 192 = .ok (.invokevirtual 354, 3) := dk_182 1 98 (dk_at dksX0_trio_8 1 rfl rfl)
theorem dX0_trio_195 : decode cX0_trio 195 = .ok (.lmul, 1) := dk_105 (dk_at dksX0_trio_8 4 rfl rfl)
theorem dX0_trio_196 : decode cX0_trio 196 = .ok (.lload 17, 2) := dk_22 17 (dk_at dksX0_trio_8 5 rfl rfl)
theorem dX0_trio_198 : decode cX0_trio 198 = .ok (.aload_n 0, 1) := dk_42 (dk_at dksX0_trio_8 7 rfl rfl)
theorem dX0_trio_199 : decode cX0_trio 199 = .ok (.iload_n 1, 1) := dk_27 (dk_at dksX0_trio_8 8 rfl rfl)
theorem dX0_trio_200 : decode cX0_trio 200 = .ok (.iload_n 2, 1) := dk_28 (dk_at dksX0_trio_8 9 rfl rfl)
theorem dX0_trio_201 : decode cX0_trio 201 = .ok (.invokevirtual 361, 3) := dk_182 1 105 (dk_at dksX0_trio_8 10 rfl rfl)
theorem dX0_trio_204 : decode cX0_trio 204 = .ok (.lmul, 1) := dk_105 (dk_at dksX0_trio_8 13 rfl rfl)
theorem dX0_trio_205 : decode cX0_trio 205 = .ok (.aload_n 0, 1) := dk_42 (dk_at dksX0_trio_8 14 rfl rfl)
theorem dX0_trio_206 : decode cX0_trio 206 = .ok (.iload_n 3, 1) := dk_29 (dk_at dksX0_trio_8 15 rfl rfl)
theorem dX0_trio_207 : decode cX0_trio 207 = .ok (.iload_n 1, 1) := dk_27 (dk_at dksX0_trio_8 16 rfl rfl)
theorem dX0_trio_208 : decode cX0_trio 208 = .ok (.invokevirtual 354, 3) := dk_182 1 98 (dk_at dksX0_trio_8 17 rfl rfl)
theorem dX0_trio_211 : decode cX0_trio 211 = .ok (.lmul, 1) := dk_105 (dk_at dksX0_trio_8 20 rfl rfl)
theorem dX0_trio_212 : decode cX0_trio 212 = .ok (.ladd, 1) := dk_97 (dk_at dksX0_trio_8 21 rfl rfl)
theorem dX0_trio_213 : decode cX0_trio 213 = .ok (.lload 11, 2) := dk_22 11 (dk_at dksX0_trio_8 22 rfl rfl)
theorem dX0_trio_215 : decode cX0_trio 215 = .ok (.aload_n 0, 1) := dk_42 (dk_at dksX0_trio_9 0 rfl rfl)
theorem dX0_trio_216 : decode cX0_trio 216 = .ok (.iload_n 3, 1) := dk_29 (dk_at dksX0_trio_9 1 rfl rfl)
theorem dX0_trio_217 : decode cX0_trio 217 = .ok (.iload_n 1, 1) := dk_27 (dk_at dksX0_trio_9 2 rfl rfl)
theorem dX0_trio_218 : decode cX0_trio 218 = .ok (.invokevirtual 354, 3) := dk_182 1 98 (dk_at dksX0_trio_9 3 rfl rfl)
theorem dX0_trio_221 : decode cX0_trio 221 = .ok (.lmul, 1) := dk_105 (dk_at dksX0_trio_9 6 rfl rfl)
theorem dX0_trio_222 : decode cX0_trio 222 = .ok (.aload_n 0, 1) := dk_42 (dk_at dksX0_trio_9 7 rfl rfl)
theorem dX0_trio_223 : decode cX0_trio 223 = .ok (.iload_n 1, 1) := dk_27 (dk_at dksX0_trio_9 8 rfl rfl)
theorem dX0_trio_224 : decode cX0_trio 224 = .ok (.iload_n 2, 1) := dk_28 (dk_at dksX0_trio_9 9 rfl rfl)
theorem dX0_trio_225 : decode cX0_trio 225 = .ok (.invokevirtual 354, 3) := dk_182 1 98 (dk_at dksX0_trio_9 10 rfl rfl)
theorem dX0_trio_228 : decode cX0_trio 228 = .ok (.lmul, 1) := dk_105 (dk_at dksX0_trio_9 13 rfl rfl)
theorem dX0_trio_229 : decode cX0_trio 229 = .ok (.invokevirtual 364, 3) := dk_182 1 108 (dk_at dksX0_trio_9 14 rfl rfl)
theorem dX0_trio_232 : decode cX0_trio 232 = .ok (.pop, 1) := dk_87 (dk_at dksX0_trio_9 17 rfl rfl)
theorem dX0_trio_233 : decode cX0_trio 233 = .ok (.goto 134, 3) := dk_167 0 134 (dk_at dksX0_trio_9 18 rfl rfl)
theorem dX0_trio_236 : decode cX0_trio 236 = .ok (.iload 4, 2) := dk_21 4 (dk_at dksX0_trio_9 21 rfl rfl)
theorem dX0_trio_238 : decode cX0_trio 238 = .ok (.iconst 1, 1) := dk_4 (dk_at dksX0_trio_9 23 rfl rfl)
theorem dX0_trio_239 : decode cX0_trio 239 = .ok (.if_icmp .ne 67, 3) := dk_160 0 67 (dk_at dksX0_trio_10 0 rfl rfl)
theorem dX0_trio_242 : decode cX0_trio 242 = .ok (.aload_n 0, 1) := dk_42 (dk_at dksX0_trio_10 3 rfl rfl)
theorem dX0_trio_243 : decode cX0_trio 243 = .ok (.lload 17, 2) := dk_22 17 (dk_at dksX0_trio_10 4 rfl rfl)
theorem dX0_trio_245 : decode cX0_trio 245 = .ok (.aload_n 0, 1) := dk_42 (dk_at dksX0_trio_10 6 rfl rfl)
theorem dX0_trio_246 : decode cX0_trio 246 = .ok (.iload_n 1, 1) := dk_27 (dk_at dksX0_trio_10 7 rfl rfl)
theorem dX0_trio_247 : decode cX0_trio 247 = .ok (.iload_n 2, 1) := dk_28 (dk_at dksX0_trio_10 8 rfl rfl)
theorem dX0_trio_248 : decode cX0_trio 248 = .ok (.invokevirtual 354, 3) := dk_182 1 98 (dk_at dksX0_trio_10 9 rfl rfl)
theorem dX0_trio_251 : decode cX0_trio 251 = .ok (.aload_n 0, 1) := dk_42 (dk_at dksX0_trio_10 12 rfl rfl)
theorem dX0_trio_252 : decode cX0_trio 252 = .ok (.iload_n 1, 1) := dk_27 (dk_at dksX0_trio_10 13 rfl rfl)
theorem dX0_trio_253 : decode cX0_trio 253 = .ok (.iload_n 2, 1) := dk_28 (dk_at dksX0_trio_10 14 rfl rfl)
theorem dX0_trio_254 : decode cX0_trio 254 = .ok (.invokevirtual 361, 3) := dk_182 1 105 (dk_at dksX0_trio_10 15 rfl rfl)
theorem dX0_trio_257 : decode cX0_trio 257 = .ok (.lsub, 1) := dk_101 (dk_at dksX0_trio_10 18 rfl rfl)
theorem dX0_trio_258 : decode cX0_trio 258 = .ok (.lmul, 1) := dk_105 (dk_at dksX0_trio_10 19 rfl rfl)
theorem dX0_trio_259 : decode cX0_trio 259 = .ok (.aload_n 0, 1) := dk_42 (dk_at dksX0_trio_10 20 rfl rfl)
theorem dX0_trio_260 : decode cX0_trio 260 = .ok (.iload_n 2, 1) := dk_28 (dk_at dksX0_trio_10 21 rfl rfl)
theorem dX0_trio_261 : decode cX0_trio 261 = .ok (.iload_n 3, 1) := dk_29 (dk_at dksX0_trio_10 22 rfl rfl)
theorem dX0_trio_262 : decode cX0_trio 262 = .ok (.invokevirtual 354, 3) := dk_182 1 98 (dk_at dksX0_trio_11 0 rfl rfl)
theorem dX0_trio_265 : decode cX0_trio 265 = .ok (.lmul, 1) := dk_105 (dk_at dksX0_trio_11 3 rfl rfl)
theorem dX0_trio_266 : decode cX0_trio 266 = .ok (.lload 13, 2) := dk_22 13 (dk_at dksX0_trio_11 4 rfl rfl)
theorem dX0_trio_268 : decode cX0_trio 268 = .ok (.aload_n 0, 1) := dk_42 (dk_at dksX0_trio_11 6 rfl rfl)
theorem dX0_trio_269 : decode cX0_trio 269 = .ok (.iload_n 2, 1) := dk_28 (dk_at dksX0_trio_11 7 rfl rfl)
theorem dX0_trio_270 : decode cX0_trio 270 = .ok (.iload_n 3, 1) := dk_29 (dk_at dksX0_trio_11 8 rfl rfl)
theorem dX0_trio_271 : decode cX0_trio 271 = .ok (.invokevirtual 361, 3) := dk_182 1 105 (dk_at dksX0_trio_11 9 rfl rfl)
theorem dX0_trio_274 : decode cX0_trio 274 = .ok (.lmul, 1) := dk_105 (dk_at dksX0_trio_11 12 rfl rfl)
theorem dX0_trio_275 : decode cX0_trio 275 = .ok (.aload_n 0, 1) := dk_42 (dk_at dksX0_trio_11 13 rfl rfl)
theorem dX0_trio_276 : decode cX0_trio 276 = .ok (.iload_n 1, 1) := dk_27 (dk_at dksX0_trio_11 14 rfl rfl)
theorem dX0_trio_277 : decode cX0_trio 277 = .ok (.iload_n 2, 1) := dk_28 (dk_at dksX0_trio_11 15 rfl rfl)
theorem dX0_trio_278 : decode cX0_trio 278 = .ok (.invokevirtual 354, 3) := dk_182 1 98 (dk_at dksX0_trio_11 16 rfl rfl)
theorem dX0_trio_281 : decode cX0_trio 281 = .ok (.lmul, 1) := dk_105 (dk_at dksX0_trio_11 19 rfl rfl)
theorem dX0_trio_282 : decode cX0_trio 282 = .ok (.ladd, 1) := dk_97 (dk_at dksX0_trio_11 20 rfl rfl)
theorem dX0_trio_283 : decode cX0_trio 283 = .ok (.lload 11, 2) := dk_22 11 (dk_at dksX0_trio_11 21 rfl rfl)
theorem dX0_trio_285 : decode cX0_trio 285 = .ok (.aload_n 0, 1) := dk_42 (dk_at dksX0_trio_11 23 rfl rfl)
theorem dX0_trio_286 : decode cX0_trio 286 = .ok (.iload_n 1, 1) := dk_27 (dk_at dksX0_trio_12 0 rfl rfl)
theorem dX0_trio_287 : decode cX0_trio 287 = .ok (.iload_n 2, 1) := dk_28 (dk_at dksX0_trio_12 1 rfl rfl)
theorem dX0_trio_288 : decode cX0_trio 288 = .ok (.invokevirtual 354, 3) := dk_182 1 98 (dk_at dksX0_trio_12 2 rfl rfl)
theorem dX0_trio_291 : decode cX0_trio 291 = .ok (.lmul, 1) := dk_105 (dk_at dksX0_trio_12 5 rfl rfl)
theorem dX0_trio_292 : decode cX0_trio 292 = .ok (.aload_n 0, 1) := dk_42 (dk_at dksX0_trio_12 6 rfl rfl)
theorem dX0_trio_293 : decode cX0_trio 293 = .ok (.iload_n 2, 1) := dk_28 (dk_at dksX0_trio_12 7 rfl rfl)
theorem dX0_trio_294 : decode cX0_trio 294 = .ok (.iload_n 3, 1) := dk_29 (dk_at dksX0_trio_12 8 rfl rfl)
theorem dX0_trio_295 : decode cX0_trio 295 = .ok (.invokevirtual 354, 3) := dk_182 1 98 (dk_at dksX0_trio_12 9 rfl rfl)
theorem dX0_trio_298 : decode cX0_trio 298 = .ok (.lmul, 1) := dk_105 (dk_at dksX0_trio_12 12 rfl rfl)
theorem dX0_trio_299 : decode cX0_trio 299 = .ok (.invokevirtual 364, 3) := dk_182 1 108 (dk_at dksX0_trio_12 13 rfl rfl)
theorem dX0_trio_302 : decode cX0_trio 302 = .ok (.pop, 1) := dk_87 (dk_at dksX0_trio_12 16 rfl rfl)
theorem dX0_trio_303 : decode cX0_trio 303 = .ok (.goto 64, 3) := dk_167 0 64 (dk_at dksX0_trio_12 17 rfl rfl)
theorem dX0_trio_306 : decode cX0_trio 306 = .ok (.aload_n 0, 1) := dk_42 (dk_at dksX0_trio_12 20 rfl rfl)
theorem dX0_trio_307 : decode cX0_trio 307 = .ok (.lload 13, 2) := dk_22 13 (dk_at dksX0_trio_12 21 rfl rfl)
theorem dX0_trio_309 : decode cX0_trio 309 = .ok (.aload_n 0, 1) := dk_42 (dk_at dksX0_trio_12 23 rfl rfl)
theorem dX0_trio_310 : decode cX0_trio 310 = .ok (.iload_n 2, 1) := dk_28 (dk_at dksX0_trio_13 0 rfl rfl)
theorem dX0_trio_311 : decode cX0_trio 311 = .ok (.iload_n 3, 1) := dk_29 (dk_at dksX0_trio_13 1 rfl rfl)
theorem dX0_trio_312 : decode cX0_trio 312 = .ok (.invokevirtual 354, 3) := dk_182 1 98 (dk_at dksX0_trio_13 2 rfl rfl)
theorem dX0_trio_315 : decode cX0_trio 315 = .ok (.aload_n 0, 1) := dk_42 (dk_at dksX0_trio_13 5 rfl rfl)
theorem dX0_trio_316 : decode cX0_trio 316 = .ok (.iload_n 2, 1) := dk_28 (dk_at dksX0_trio_13 6 rfl rfl)
theorem dX0_trio_317 : decode cX0_trio 317 = .ok (.iload_n 3, 1) := dk_29 (dk_at dksX0_trio_13 7 rfl rfl)
theorem dX0_trio_318 : decode cX0_trio 318 = .ok (.invokevirtual 361, 3) := dk_182 1 105 (dk_at dksX0_trio_13 8 rfl rfl)
theorem dX0_trio_321 : decode cX0_trio 321 = .ok (.lsub, 1) := dk_101 (dk_at dksX0_trio_13 11 rfl rfl)
theorem dX0_trio_322 : decode cX0_trio 322 = .ok (.lmul, 1) := dk_105 (dk_at dksX0_trio_13 12 rfl rfl)
theorem dX0_trio_323 : decode cX0_trio 323 = .ok (.aload_n 0, 1) := dk_42 (dk_at dksX0_trio_13 13 rfl rfl)
theorem dX0_trio_324 : decode cX0_trio 324 = .ok (.iload_n 3, 1) := dk_29 (dk_at dksX0_trio_13 14 rfl rfl)
theorem dX0_trio_325 : decode cX0_trio 325 = .ok (.iload_n 1, 1) := dk_27 (dk_at dksX0_trio_13 15 rfl rfl)
theorem dX0_trio_326 : decode cX0_trio 326 = .ok (.invokevirtual 354, 3) := dk_182 1 98 (dk_at dksX0_trio_13 16 rfl rfl)
theorem dX0_trio_329 : decode cX0_trio 329 = .ok (.lmul, 1) := dk_105 (dk_at dksX0_trio_13 19 rfl rfl)
theorem dX0_trio_330 : decode cX0_trio 330 = .ok (.lload 15, 2) := dk_22 15 (dk_at dksX0_trio_13 20 rfl rfl)
theorem dX0_trio_332 : decode cX0_trio 332 = .ok (.aload_n 0, 1) := dk_42 (dk_at dksX0_trio_13 22 rfl rfl)
theorem dX0_trio_333 : decode cX0_trio 333 = .ok (.iload_n 3, 1) := dk_29 (dk_at dksX0_trio_13 23 rfl rfl)
theorem dX0_trio_334 : decode cX0_trio 334 = .ok (.iload_n 1, 1) := dk_27 (dk_at dksX0_trio_14 0 rfl rfl)
theorem dX0_trio_335 : decode cX0_trio 335 = .ok (.invokevirtual 361, 3) := dk_182 1 105 (dk_at dksX0_trio_14 1 rfl rfl)
theorem dX0_trio_338 : decode cX0_trio 338 = .ok (.lmul, 1) := dk_105 (dk_at dksX0_trio_14 4 rfl rfl)
theorem dX0_trio_339 : decode cX0_trio 339 = .ok (.aload_n 0, 1) := dk_42 (dk_at dksX0_trio_14 5 rfl rfl)
theorem dX0_trio_340 : decode cX0_trio 340 = .ok (.iload_n 2, 1) := dk_28 (dk_at dksX0_trio_14 6 rfl rfl)
theorem dX0_trio_341 : decode cX0_trio 341 = .ok (.iload_n 3, 1) := dk_29 (dk_at dksX0_trio_14 7 rfl rfl)
theorem dX0_trio_342 : decode cX0_trio 342 = .ok (.invokevirtual 354, 3) := dk_182 1 98 (dk_at dksX0_trio_14 8 rfl rfl)
theorem dX0_trio_345 : decode cX0_trio 345 = .ok (.lmul, 1) := dk_105 (dk_at dksX0_trio_14 11 rfl rfl)
theorem dX0_trio_346 : decode cX0_trio 346 = .ok (.ladd, 1) := dk_97 (dk_at dksX0_trio_14 12 rfl rfl)
theorem dX0_trio_347 : decode cX0_trio 347 = .ok (.lload 11, 2) := dk_22 11 (dk_at dksX0_trio_14 13 rfl rfl)
theorem dX0_trio_349 : decode cX0_trio 349 = .ok (.aload_n 0, 1) := dk_42 (dk_at dksX0_trio_14 15 rfl rfl)
theorem dX0_trio_350 : decode cX0_trio 350 = .ok (.iload_n 2, 1) := dk_28 (dk_at dksX0_trio_14 16 rfl rfl)
theorem dX0_trio_351 : decode cX0_trio 351 = .ok (.iload_n 3, 1) := dk_29 (dk_at dksX0_trio_14 17 rfl rfl)
theorem dX0_trio_352 : decode cX0_trio 352 = .ok (.invokevirtual 354, 3) := dk_182 1 98 (dk_at dksX0_trio_14 18 rfl rfl)
theorem dX0_trio_355 : decode cX0_trio 355 = .ok (.lmul, 1) := dk_105 (dk_at dksX0_trio_14 21 rfl rfl)
theorem dX0_trio_356 : decode cX0_trio 356 = .ok (.aload_n 0, 1) := dk_42 (dk_at dksX0_trio_14 22 rfl rfl)
theorem dX0_trio_357 : decode cX0_trio 357 = .ok (.iload_n 3, 1) := dk_29 (dk_at dksX0_trio_14 23 rfl rfl)
theorem dX0_trio_358 : decode cX0_trio 358 = .ok (.iload_n 1, 1) := dk_27 (dk_at dksX0_trio_15 0 rfl rfl)
theorem dX0_trio_359 : decode cX0_trio 359 = .ok (.invokevirtual 354, 3) := dk_182 1 98 (dk_at dksX0_trio_15 1 rfl rfl)
theorem dX0_trio_362 : decode cX0_trio 362 = .ok (.lmul, 1) := dk_105 (dk_at dksX0_trio_15 4 rfl rfl)
theorem dX0_trio_363 : decode cX0_trio 363 = .ok (.invokevirtual 364, 3) := dk_182 1 108 (dk_at dksX0_trio_15 5 rfl rfl)
theorem dX0_trio_366 : decode cX0_trio 366 = .ok (.pop, 1) := dk_87 (dk_at dksX0_trio_15 8 rfl rfl)
theorem dX0_trio_367 : decode cX0_trio 367 = .ok (.iconst 1, 1) := dk_4 (dk_at dksX0_trio_15 9 rfl rfl)
theorem dX0_trio_368 : decode cX0_trio 368 = .ok (.ireturn, 1) := dk_172 (dk_at dksX0_trio_15 10 rfl rfl)
abbrev cX0_areThree : ByteArray := prog_1_method_61_code
def yX0_areThree : MethodName := ⟨RX0, "areThree", "(III)Z"⟩
def dkwX0_areThree_1 : List UInt8 := [167, 0, 4, 3, 172]
abbrev dktX0_areThree_1 : List UInt8 := dkwX0_areThree_1 ++ []
def dkwX0_areThree_0 : List UInt8 := [42, 27, 28, 182, 1, 95, 153, 0, 21, 42, 28, 29, 182, 1, 95, 153, 0, 12, 27, 29, 159, 0, 7, 4]
abbrev dktX0_areThree_0 : List UInt8 := dkwX0_areThree_0 ++ dktX0_areThree_1
theorem dksX0_areThree_0 : cX0_areThree.data.toList.drop 0 = dktX0_areThree_0 := by decide +kernel
theorem dksX0_areThree_1 : cX0_areThree.data.toList.drop 24 = dktX0_areThree_1 := dk_seg dksX0_areThree_0 24 rfl rfl
theorem dX0_areThree_0 : decode cX0_areThree 0 = .ok (.aload_n 0, 1) := dk_42 (dk_at dksX0_areThree_0 0 rfl rfl)
theorem dX0_areThree_1 : decode cX0_areThree 1 = .ok (.iload_n 1, 1) := dk_27 (dk_at dksX0_areThree_0 1 rfl rfl)
theorem dX0_areThree_2 : decode cX0_areThree 2 = .ok (.iload_n 2, 1) := dk_28 (dk_at dksX0_areThree_0 2 rfl rfl)
theorem dX0_areThree_3 : decode cX0_areThree 3 = .ok (.invokevirtual 351, 3) := dk_182 1 95 (dk_at dksX0_areThree_0 3 rfl rfl)
theorem dX0_areThree_6 : decode cX0_areThree 6 = .ok (.ifCond .eq 21, 3) := dk_153 0 21 (dk_at dksX0_areThree_0 6 rfl rfl)
theorem dX0_areThree_9 : decode cX0_areThree 9 = .ok (.aload_n 0, 1) := dk_42 (dk_at dksX0_areThree_0 9 rfl rfl)
theorem dX0_areThree_10 : decode cX0_areThree 10 = .ok (.iload_n 2, 1) := dk_28 (dk_at dksX0_areThree_0 10 rfl rfl)
theorem dX0_areThree_11 : decode cX0_areThree 11 = .ok (.iload_n 3, 1) := dk_29 (dk_at dksX0_areThree_0 11 rfl rfl)
theorem dX0_areThree_12 : decode cX0_areThree 12 = .ok (.invokevirtual 351, 3) := dk_182 1 95 (dk_at dksX0_areThree_0 12 rfl rfl)
theorem dX0_areThree_15 : decode cX0_areThree 15 = .ok (.ifCond .eq 12, 3) := dk_153 0 12 (dk_at dksX0_areThree_0 15 rfl rfl)
theorem dX0_areThree_18 : decode cX0_areThree 18 = .ok (.iload_n 1, 1) := dk_27 (dk_at dksX0_areThree_0 18 rfl rfl)
theorem dX0_areThree_19 : decode cX0_areThree 19 = .ok (.iload_n 3, 1) := dk_29 (dk_at dksX0_areThree_0 19 rfl rfl)
theorem dX0_areThree_20 : decode cX0_areThree 20 = .ok (.if_icmp .eq 7, 3) := dk_159 0 7 (dk_at dksX0_areThree_0 20 rfl rfl)
theorem dX0_areThree_23 : decode cX0_areThree 23 = .ok (.iconst 1, 1) := dk_4 (dk_at dksX0_areThree_0 23 rfl rfl)
theorem dX0_areThree_24 : decode cX0_areThree 24 = .ok (.goto 4, 3) := dk_167 0 4 (dk_at dksX0_areThree_1 0 rfl rfl)
theorem dX0_areThree_27 : decode cX0_areThree 27 = .ok (.iconst 0, 1) := dk_3 (dk_at dksX0_areThree_1 3 rfl rfl)
theorem dX0_areThree_28 : decode cX0_areThree 28 = .ok (.ireturn, 1) := dk_172 (dk_at dksX0_areThree_1 4 rfl rfl)
abbrev cX0_reach : ByteArray := prog_1_method_63_code
def yX0_reach : MethodName := ⟨RX0, "reach", "(II)Z"⟩
def dkwX0_reach_6 : List UInt8 := [182, 1, 108, 87, 42, 180, 0, 82, 154, 0, 7, 4, 167, 0, 4, 3, 172]
abbrev dktX0_reach_6 : List UInt8 := dkwX0_reach_6 ++ []
def dkwX0_reach_5 : List UInt8 := [181, 0, 82, 42, 180, 0, 82, 154, 0, 19, 42, 42, 28, 182, 1, 19, 180, 1, 28, 133, 29, 133]
abbrev dktX0_reach_5 : List UInt8 := dkwX0_reach_5 ++ dktX0_reach_6
def dkwX0_reach_4 : List UInt8 := [167, 0, 4, 3, 96, 62, 132, 4, 1, 167, 255, 216, 42, 29, 154, 0, 8, 16, 6, 167, 0, 4, 3]
abbrev dktX0_reach_4 : List UInt8 := dkwX0_reach_4 ++ dktX0_reach_5
def dkwX0_reach_3 : List UInt8 := [162, 0, 34, 29, 27, 21, 4, 184, 1, 122, 153, 0, 15, 42, 21, 4, 182, 1, 19, 180, 1, 28]
abbrev dktX0_reach_3 : List UInt8 := dkwX0_reach_3 ++ dktX0_reach_4
def dkwX0_reach_2 : List UInt8 := [180, 0, 82, 158, 0, 5, 3, 172, 3, 62, 3, 54, 4, 21, 4, 42, 182, 0, 163, 180, 0, 167]
abbrev dktX0_reach_2 : List UInt8 := dkwX0_reach_2 ++ dktX0_reach_3
def dkwX0_reach_1 : List UInt8 := [184, 0, 170, 153, 0, 15, 27, 28, 184, 1, 122, 153, 0, 7, 3, 167, 0, 4, 4, 181, 0, 82, 42]
abbrev dktX0_reach_1 : List UInt8 := dkwX0_reach_1 ++ dktX0_reach_2
def dkwX0_reach_0 : List UInt8 := [42, 42, 28, 182, 0, 174, 153, 0, 36, 27, 133, 10, 4, 42, 182, 0, 163, 180, 0, 167, 120, 4, 100, 133]
abbrev dktX0_reach_0 : List UInt8 := dkwX0_reach_0 ++ dktX0_reach_1
theorem dksX0_reach_0 : cX0_reach.data.toList.drop 0 = dktX0_reach_0 := by decide +kernel
theorem dksX0_reach_1 : cX0_reach.data.toList.drop 24 = dktX0_reach_1 := dk_seg dksX0_reach_0 24 rfl rfl
theorem dksX0_reach_2 : cX0_reach.data.toList.drop 47 = dktX0_reach_2 := dk_seg dksX0_reach_1 23 rfl rfl
theorem dksX0_reach_3 : cX0_reach.data.toList.drop 69 = dktX0_reach_3 := dk_seg dksX0_reach_2 22 rfl rfl
theorem dksX0_reach_4 : cX0_reach.data.toList.drop 91 = dktX0_reach_4 := dk_seg dksX0_reach_3 22 rfl rfl
theorem dksX0_reach_5 : cX0_reach.data.toList.drop 114 = dktX0_reach_5 := dk_seg dksX0_reach_4 23 rfl rfl
theorem dksX0_reach_6 : cX0_reach.data.toList.drop 136 = dktX0_reach_6 := dk_seg dksX0_reach_5 22 rfl rfl
theorem dX0_reach_0 : decode cX0_reach 0 = .ok (.aload_n 0, 1) := dk_42 (dk_at dksX0_reach_0 0 rfl rfl)
theorem dX0_reach_1 : decode cX0_reach 1 = .ok (.aload_n 0, 1) := dk_42 (dk_at dksX0_reach_0 1 rfl rfl)
theorem dX0_reach_2 : decode cX0_reach 2 = .ok (.iload_n 2, 1) := dk_28 (dk_at dksX0_reach_0 2 rfl rfl)
theorem dX0_reach_3 : decode cX0_reach 3 = .ok (.invokevirtual 174, 3) := dk_182 0 174 (dk_at dksX0_reach_0 3 rfl rfl)
theorem dX0_reach_6 : decode cX0_reach 6 = .ok (.ifCond .eq 36, 3) := dk_153 0 36 (dk_at dksX0_reach_0 6 rfl rfl)
theorem dX0_reach_9 : decode cX0_reach 9 = .ok (.iload_n 1, 1) := dk_27 (dk_at dksX0_reach_0 9 rfl rfl)
theorem dX0_reach_10 : decode cX0_reach 10 = .ok (.i2l, 1) := dk_133 (dk_at dksX0_reach_0 10 rfl rfl)
theorem dX0_reach_11 : decode cX0_reach 11 = .ok (.lconst 1, 1) := dk_10 (dk_at dksX0_reach_0 11 rfl rfl)
theorem dX0_reach_12 : decode cX0_reach 12 = .ok (.iconst 1, 1) := dk_4 (dk_at dksX0_reach_0 12 rfl rfl)
theorem dX0_reach_13 : decode cX0_reach 13 = .ok (.aload_n 0, 1) := dk_42 (dk_at dksX0_reach_0 13 rfl rfl)
theorem dX0_reach_14 : decode cX0_reach 14 = .ok (.invokevirtual 163, 3) := dk_182 0 163 (dk_at dksX0_reach_0 14 rfl rfl)
theorem dX0_reach_17 : decode cX0_reach 17 = .ok (.getfield 167, 3) := dk_180 0 167 (dk_at dksX0_reach_0 17 rfl rfl)
theorem dX0_reach_20 : decode cX0_reach 20 = .ok (.ishl, 1) := dk_120 (dk_at dksX0_reach_0 20 rfl rfl)
theorem dX0_reach_21 : decode cX0_reach 21 = .ok (.iconst 1, 1) := dk_4 (dk_at dksX0_reach_0 21 rfl rfl)
theorem dX0_reach_22 : decode cX0_reach 22 = .ok (.isub, 1) := dk_100 (dk_at dksX0_reach_0 22 rfl rfl)
theorem dX0_reach_23 : decode cX0_reach 23 = .ok (.i2l, 1) := dk_133 (dk_at dksX0_reach_0 23 rfl rfl)
theorem dX0_reach_24 : decode cX0_reach 24 = .ok (.invokestatic 170, 3) := dk_184 0 170 (dk_at dksX0_reach_1 0 rfl rfl)
theorem dX0_reach_27 : decode cX0_reach 27 = .ok (.ifCond .eq 15, 3) := dk_153 0 15 (dk_at dksX0_reach_1 3 rfl rfl)
theorem dX0_reach_30 : decode cX0_reach 30 = .ok (.iload_n 1, 1) := dk_27 (dk_at dksX0_reach_1 6 rfl rfl)
theorem dX0_reach_31 : decode cX0_reach 31 = .ok (.iload_n 2, 1) := dk_28 (dk_at dksX0_reach_1 7 rfl rfl)
theorem dX0_reach_32 : decode cX0_reach 32 = .ok (.invokestatic 378, 3) := dk_184 1 122 (dk_at dksX0_reach_1 8 rfl rfl)
theorem dX0_reach_35 : decode cX0_reach 35 = .ok (.ifCond .eq 7, 3) := dk_153 0 7 (dk_at dksX0_reach_1 11 rfl rfl)
theorem dX0_reach_38 : decode cX0_reach 38 = .ok (.iconst 0, 1) := dk_3 (dk_at dksX0_reach_1 14 rfl rfl)
theorem dX0_reach_39 : decode cX0_reach 39 = .ok (.goto 4, 3) := dk_167 0 4 (dk_at dksX0_reach_1 15 rfl rfl)
theorem dX0_reach_42 : decode cX0_reach 42 = .ok (.iconst 1, 1) := dk_4 (dk_at dksX0_reach_1 18 rfl rfl)
theorem dX0_reach_43 : decode cX0_reach 43 = .ok (.putfield 82, 3) := dk_181 0 82 (dk_at dksX0_reach_1 19 rfl rfl)
theorem dX0_reach_46 : decode cX0_reach 46 = .ok (.aload_n 0, 1) := dk_42 (dk_at dksX0_reach_1 22 rfl rfl)
theorem dX0_reach_47 : decode cX0_reach 47 = .ok (.getfield 82, 3) := dk_180 0 82 (dk_at dksX0_reach_2 0 rfl rfl)
theorem dX0_reach_50 : decode cX0_reach 50 = .ok (.ifCond .le 5, 3) := dk_158 0 5 (dk_at dksX0_reach_2 3 rfl rfl)
theorem dX0_reach_53 : decode cX0_reach 53 = .ok (.iconst 0, 1) := dk_3 (dk_at dksX0_reach_2 6 rfl rfl)
theorem dX0_reach_54 : decode cX0_reach 54 = .ok (.ireturn, 1) := dk_172 (dk_at dksX0_reach_2 7 rfl rfl)
theorem dX0_reach_55 : decode cX0_reach 55 = .ok (.iconst 0, 1) := dk_3 (dk_at dksX0_reach_2 8 rfl rfl)
theorem dX0_reach_56 : decode cX0_reach 56 = .ok (.istore_n 3, 1) := dk_62 (dk_at dksX0_reach_2 9 rfl rfl)
theorem dX0_reach_57 : decode cX0_reach 57 = .ok (.iconst 0, 1) := dk_3 (dk_at dksX0_reach_2 10 rfl rfl)
theorem dX0_reach_58 : decode cX0_reach 58 = .ok (.istore 4, 2) := dk_54 4 (dk_at dksX0_reach_2 11 rfl rfl)
theorem dX0_reach_60 : decode cX0_reach 60 = .ok (.iload 4, 2) := dk_21 4 (dk_at dksX0_reach_2 13 rfl rfl)
theorem dX0_reach_62 : decode cX0_reach 62 = .ok (.aload_n 0, 1) := dk_42 (dk_at dksX0_reach_2 15 rfl rfl)
theorem dX0_reach_63 : decode cX0_reach 63 = .ok (.invokevirtual 163, 3) := dk_182 0 163 (dk_at dksX0_reach_2 16 rfl rfl)
theorem dX0_reach_66 : decode cX0_reach 66 = .ok (.getfield 167, 3) := dk_180 0 167 (dk_at dksX0_reach_2 19 rfl rfl)
theorem dX0_reach_69 : decode cX0_reach 69 = .ok (.if_icmp .ge 34, 3) := dk_162 0 34 (dk_at dksX0_reach_3 0 rfl rfl)
theorem dX0_reach_72 : decode cX0_reach 72 = .ok (.iload_n 3, 1) := dk_29 (dk_at dksX0_reach_3 3 rfl rfl)
theorem dX0_reach_73 : decode cX0_reach 73 = .ok (.iload_n 1, 1) := dk_27 (dk_at dksX0_reach_3 4 rfl rfl)
theorem dX0_reach_74 : decode cX0_reach 74 = .ok (.iload 4, 2) := dk_21 4 (dk_at dksX0_reach_3 5 rfl rfl)
theorem dX0_reach_76 : decode cX0_reach 76 = .ok (.invokestatic 378, 3) := dk_184 1 122 (dk_at dksX0_reach_3 7 rfl rfl)
theorem dX0_reach_79 : decode cX0_reach 79 = .ok (.ifCond .eq 15, 3) := dk_153 0 15 (dk_at dksX0_reach_3 10 rfl rfl)
theorem dX0_reach_82 : decode cX0_reach 82 = .ok (.aload_n 0, 1) := dk_42 (dk_at dksX0_reach_3 13 rfl rfl)
theorem dX0_reach_83 : decode cX0_reach 83 = .ok (.iload 4, 2) := dk_21 4 (dk_at dksX0_reach_3 14 rfl rfl)
theorem dX0_reach_85 : decode cX0_reach 85 = .ok (.invokevirtual 275, 3) := dk_182 1 19 (dk_at dksX0_reach_3 16 rfl rfl)
theorem dX0_reach_88 : decode cX0_reach 88 = .ok (.getfield 284, 3) := dk_180 1 28 (dk_at dksX0_reach_3 19 rfl rfl)
theorem dX0_reach_91 : decode cX0_reach 91 = .ok (.goto 4, 3) := dk_167 0 4 (dk_at dksX0_reach_4 0 rfl rfl)
theorem dX0_reach_94 : decode cX0_reach 94 = .ok (.iconst 0, 1) := dk_3 (dk_at dksX0_reach_4 3 rfl rfl)
theorem dX0_reach_95 : decode cX0_reach 95 = .ok (.iadd, 1) := dk_96 (dk_at dksX0_reach_4 4 rfl rfl)
theorem dX0_reach_96 : decode cX0_reach 96 = .ok (.istore_n 3, 1) := dk_62 (dk_at dksX0_reach_4 5 rfl rfl)
theorem dX0_reach_97 : decode cX0_reach 97 = .ok (.iinc 4 1, 3) := dk_132 4 1 (dk_at dksX0_reach_4 6 rfl rfl)
theorem dX0_reach_100 : decode cX0_reach 100 = .ok (.goto (-40), 3) := dk_167 255 216 (dk_at dksX0_reach_4 9 rfl rfl)
theorem dX0_reach_103 : decode cX0_reach 103 = .ok (.aload_n 0, 1) := dk_42 (dk_at dksX0_reach_4 12 rfl rfl)
theorem dX0_reach_104 : decode cX0_reach 104 = .ok (.iload_n 3, 1) := dk_29 (dk_at dksX0_reach_4 13 rfl rfl)
theorem dX0_reach_105 : decode cX0_reach 105 = .ok (.ifCond .ne 8, 3) := dk_154 0 8 (dk_at dksX0_reach_4 14 rfl rfl)
theorem dX0_reach_108 : decode cX0_reach 108 = .ok (.bipush 6, 2) := dk_16 6 (dk_at dksX0_reach_4 17 rfl rfl)
theorem dX0_reach_110 : decode cX0_reach 110 = .ok (.goto 4, 3) := dk_167 0 4 (dk_at dksX0_reach_4 19 rfl rfl)
theorem dX0_reach_113 : decode cX0_reach 113 = .ok (.iconst 0, 1) := dk_3 (dk_at dksX0_reach_4 22 rfl rfl)
theorem dX0_reach_114 : decode cX0_reach 114 = .ok (.putfield 82, 3) := dk_181 0 82 (dk_at dksX0_reach_5 0 rfl rfl)
theorem dX0_reach_117 : decode cX0_reach 117 = .ok (.aload_n 0, 1) := dk_42 (dk_at dksX0_reach_5 3 rfl rfl)
theorem dX0_reach_118 : decode cX0_reach 118 = .ok (.getfield 82, 3) := dk_180 0 82 (dk_at dksX0_reach_5 4 rfl rfl)
theorem dX0_reach_121 : decode cX0_reach 121 = .ok (.ifCond .ne 19, 3) := dk_154 0 19 (dk_at dksX0_reach_5 7 rfl rfl)
theorem dX0_reach_124 : decode cX0_reach 124 = .ok (.aload_n 0, 1) := dk_42 (dk_at dksX0_reach_5 10 rfl rfl)
theorem dX0_reach_125 : decode cX0_reach 125 = .ok (.aload_n 0, 1) := dk_42 (dk_at dksX0_reach_5 11 rfl rfl)
theorem dX0_reach_126 : decode cX0_reach 126 = .ok (.iload_n 2, 1) := dk_28 (dk_at dksX0_reach_5 12 rfl rfl)
theorem dX0_reach_127 : decode cX0_reach 127 = .ok (.invokevirtual 275, 3) := dk_182 1 19 (dk_at dksX0_reach_5 13 rfl rfl)
theorem dX0_reach_130 : decode cX0_reach 130 = .ok (.getfield 284, 3) := dk_180 1 28 (dk_at dksX0_reach_5 16 rfl rfl)
theorem dX0_reach_133 : decode cX0_reach 133 = .ok (.i2l, 1) := dk_133 (dk_at dksX0_reach_5 19 rfl rfl)
theorem dX0_reach_134 : decode cX0_reach 134 = .ok (.iload_n 3, 1) := dk_29 (dk_at dksX0_reach_5 20 rfl rfl)
theorem dX0_reach_135 : decode cX0_reach 135 = .ok (.i2l, 1) := dk_133 (dk_at dksX0_reach_5 21 rfl rfl)
theorem dX0_reach_136 : decode cX0_reach 136 = .ok (.invokevirtual 364, 3) := dk_182 1 108 (dk_at dksX0_reach_6 0 rfl rfl)
theorem dX0_reach_139 : decode cX0_reach 139 = .ok (.pop, 1) := dk_87 (dk_at dksX0_reach_6 3 rfl rfl)
theorem dX0_reach_140 : decode cX0_reach 140 = .ok (.aload_n 0, 1) := dk_42 (dk_at dksX0_reach_6 4 rfl rfl)
theorem dX0_reach_141 : decode cX0_reach 141 = .ok (.getfield 82, 3) := dk_180 0 82 (dk_at dksX0_reach_6 5 rfl rfl)
theorem dX0_reach_144 : decode cX0_reach 144 = .ok (.ifCond .ne 7, 3) := dk_154 0 7 (dk_at dksX0_reach_6 8 rfl rfl)
theorem dX0_reach_147 : decode cX0_reach 147 = .ok (.iconst 1, 1) := dk_4 (dk_at dksX0_reach_6 11 rfl rfl)
theorem dX0_reach_148 : decode cX0_reach 148 = .ok (.goto 4, 3) := dk_167 0 4 (dk_at dksX0_reach_6 12 rfl rfl)
theorem dX0_reach_151 : decode cX0_reach 151 = .ok (.iconst 0, 1) := dk_3 (dk_at dksX0_reach_6 15 rfl rfl)
theorem dX0_reach_152 : decode cX0_reach 152 = .ok (.ireturn, 1) := dk_172 (dk_at dksX0_reach_6 16 rfl rfl)
abbrev cX0_has : ByteArray := prog_1_method_26_code
def yX0_has : MethodName := ⟨RX0, "has", "(II)Z"⟩
def dkwX0_has_0 : List UInt8 := [26, 27, 122, 4, 126, 4, 160, 0, 7, 4, 167, 0, 4, 3, 172]
abbrev dktX0_has_0 : List UInt8 := dkwX0_has_0 ++ []
theorem dksX0_has_0 : cX0_has.data.toList.drop 0 = dktX0_has_0 := by decide +kernel
theorem dX0_has_0 : decode cX0_has 0 = .ok (.iload_n 0, 1) := dk_26 (dk_at dksX0_has_0 0 rfl rfl)
theorem dX0_has_1 : decode cX0_has 1 = .ok (.iload_n 1, 1) := dk_27 (dk_at dksX0_has_0 1 rfl rfl)
theorem dX0_has_2 : decode cX0_has 2 = .ok (.ishr, 1) := dk_122 (dk_at dksX0_has_0 2 rfl rfl)
theorem dX0_has_3 : decode cX0_has 3 = .ok (.iconst 1, 1) := dk_4 (dk_at dksX0_has_0 3 rfl rfl)
theorem dX0_has_4 : decode cX0_has 4 = .ok (.iand, 1) := dk_126 (dk_at dksX0_has_0 4 rfl rfl)
theorem dX0_has_5 : decode cX0_has 5 = .ok (.iconst 1, 1) := dk_4 (dk_at dksX0_has_0 5 rfl rfl)
theorem dX0_has_6 : decode cX0_has 6 = .ok (.if_icmp .ne 7, 3) := dk_160 0 7 (dk_at dksX0_has_0 6 rfl rfl)
theorem dX0_has_9 : decode cX0_has 9 = .ok (.iconst 1, 1) := dk_4 (dk_at dksX0_has_0 9 rfl rfl)
theorem dX0_has_10 : decode cX0_has 10 = .ok (.goto 4, 3) := dk_167 0 4 (dk_at dksX0_has_0 10 rfl rfl)
theorem dX0_has_13 : decode cX0_has 13 = .ok (.iconst 0, 1) := dk_3 (dk_at dksX0_has_0 13 rfl rfl)
theorem dX0_has_14 : decode cX0_has 14 = .ok (.ireturn, 1) := dk_172 (dk_at dksX0_has_0 14 rfl rfl)
abbrev cX0_easyOn : ByteArray := prog_1_method_64_code
def yX0_easyOn : MethodName := ⟨RX0, "easyOn", "(I)I"⟩
def dkwX0_easyOn_4 : List UInt8 := [132, 3, 1, 167, 255, 187, 42, 28, 182, 1, 40, 172]
abbrev dktX0_easyOn_4 : List UInt8 := dkwX0_easyOn_4 ++ []
def dkwX0_easyOn_3 : List UInt8 := [28, 182, 1, 98, 105, 42, 27, 28, 182, 1, 105, 42, 27, 29, 182, 1, 98, 105, 148, 156, 0, 5, 29, 61]
abbrev dktX0_easyOn_3 : List UInt8 := dkwX0_easyOn_3 ++ dktX0_easyOn_4
def dkwX0_easyOn_2 : List UInt8 := [29, 182, 1, 98, 9, 148, 154, 0, 6, 167, 0, 39, 28, 155, 0, 33, 42, 27, 29, 182, 1, 105, 42, 27]
abbrev dktX0_easyOn_2 : List UInt8 := dkwX0_easyOn_2 ++ dktX0_easyOn_3
def dkwX0_easyOn_1 : List UInt8 := [2, 172, 2, 61, 3, 62, 29, 42, 182, 0, 163, 180, 0, 167, 162, 0, 64, 29, 27, 159, 0, 53, 42, 27]
abbrev dktX0_easyOn_1 : List UInt8 := dkwX0_easyOn_1 ++ dktX0_easyOn_2
def dkwX0_easyOn_0 : List UInt8 := [42, 42, 27, 182, 0, 174, 153, 0, 7, 3, 167, 0, 4, 4, 181, 0, 82, 42, 180, 0, 82, 158, 0, 5]
abbrev dktX0_easyOn_0 : List UInt8 := dkwX0_easyOn_0 ++ dktX0_easyOn_1
theorem dksX0_easyOn_0 : cX0_easyOn.data.toList.drop 0 = dktX0_easyOn_0 := by decide +kernel
theorem dksX0_easyOn_1 : cX0_easyOn.data.toList.drop 24 = dktX0_easyOn_1 := dk_seg dksX0_easyOn_0 24 rfl rfl
theorem dksX0_easyOn_2 : cX0_easyOn.data.toList.drop 48 = dktX0_easyOn_2 := dk_seg dksX0_easyOn_1 24 rfl rfl
theorem dksX0_easyOn_3 : cX0_easyOn.data.toList.drop 72 = dktX0_easyOn_3 := dk_seg dksX0_easyOn_2 24 rfl rfl
theorem dksX0_easyOn_4 : cX0_easyOn.data.toList.drop 96 = dktX0_easyOn_4 := dk_seg dksX0_easyOn_3 24 rfl rfl
theorem dX0_easyOn_0 : decode cX0_easyOn 0 = .ok (.aload_n 0, 1) := dk_42 (dk_at dksX0_easyOn_0 0 rfl rfl)
theorem dX0_easyOn_1 : decode cX0_easyOn 1 = .ok (.aload_n 0, 1) := dk_42 (dk_at dksX0_easyOn_0 1 rfl rfl)
theorem dX0_easyOn_2 : decode cX0_easyOn 2 = .ok (.iload_n 1, 1) := dk_27 (dk_at dksX0_easyOn_0 2 rfl rfl)
theorem dX0_easyOn_3 : decode cX0_easyOn 3 = .ok (.invokevirtual 174, 3) := dk_182 0 174 (dk_at dksX0_easyOn_0 3 rfl rfl)
theorem dX0_easyOn_6 : decode cX0_easyOn 6 = .ok (.ifCond .eq 7, 3) := dk_153 0 7 (dk_at dksX0_easyOn_0 6 rfl rfl)
theorem dX0_easyOn_9 : decode cX0_easyOn 9 = .ok (.iconst 0, 1) := dk_3 (dk_at dksX0_easyOn_0 9 rfl rfl)
theorem dX0_easyOn_10 : decode cX0_easyOn 10 = .ok (.goto 4, 3) := dk_167 0 4 (dk_at dksX0_easyOn_0 10 rfl rfl)
theorem dX0_easyOn_13 : decode cX0_easyOn 13 = .ok (.iconst 1, 1) := dk_4 (dk_at dksX0_easyOn_0 13 rfl rfl)
theorem dX0_easyOn_14 : decode cX0_easyOn 14 = .ok (.putfield 82, 3) := dk_181 0 82 (dk_at dksX0_easyOn_0 14 rfl rfl)
theorem dX0_easyOn_17 : decode cX0_easyOn 17 = .ok (.aload_n 0, 1) := dk_42 (dk_at dksX0_easyOn_0 17 rfl rfl)
theorem dX0_easyOn_18 : decode cX0_easyOn 18 = .ok (.getfield 82, 3) := dk_180 0 82 (dk_at dksX0_easyOn_0 18 rfl rfl)
theorem dX0_easyOn_21 : decode cX0_easyOn 21 = .ok (.ifCond .le 5, 3) := dk_158 0 5 (dk_at dksX0_easyOn_0 21 rfl rfl)
theorem dX0_easyOn_24 : decode cX0_easyOn 24 = .ok (.iconst (-1), 1) := dk_2 (dk_at dksX0_easyOn_1 0 rfl rfl)
theorem dX0_easyOn_25 : decode cX0_easyOn 25 = .ok (.ireturn, 1) := dk_172 (dk_at dksX0_easyOn_1 1 rfl rfl)
theorem dX0_easyOn_26 : decode cX0_easyOn 26 = .ok (.iconst (-1), 1) := dk_2 (dk_at dksX0_easyOn_1 2 rfl rfl)
theorem dX0_easyOn_27 : decode cX0_easyOn 27 = .ok (.istore_n 2, 1) := dk_61 (dk_at dksX0_easyOn_1 3 rfl rfl)
theorem dX0_easyOn_28 : decode cX0_easyOn 28 = .ok (.iconst 0, 1) := dk_3 (dk_at dksX0_easyOn_1 4 rfl rfl)
theorem dX0_easyOn_29 : decode cX0_easyOn 29 = .ok (.istore_n 3, 1) := dk_62 (dk_at dksX0_easyOn_1 5 rfl rfl)
theorem dX0_easyOn_30 : decode cX0_easyOn 30 = .ok (.iload_n 3, 1) := dk_29 (dk_at dksX0_easyOn_1 6 rfl rfl)
theorem dX0_easyOn_31 : decode cX0_easyOn 31 = .ok (.aload_n 0, 1) := dk_42 (dk_at dksX0_easyOn_1 7 rfl rfl)
theorem dX0_easyOn_32 : decode cX0_easyOn 32 = .ok (.invokevirtual 163, 3) := dk_182 0 163 (dk_at dksX0_easyOn_1 8 rfl rfl)
theorem dX0_easyOn_35 : decode cX0_easyOn 35 = .ok (.getfield 167, 3) := dk_180 0 167 (dk_at dksX0_easyOn_1 11 rfl rfl)
theorem dX0_easyOn_38 : decode cX0_easyOn 38 = .ok (.if_icmp .ge 64, 3) := dk_162 0 64 (dk_at dksX0_easyOn_1 14 rfl rfl)
theorem dX0_easyOn_41 : decode cX0_easyOn 41 = .ok (.iload_n 3, 1) := dk_29 (dk_at dksX0_easyOn_1 17 rfl rfl)
theorem dX0_easyOn_42 : decode cX0_easyOn 42 = .ok (.iload_n 1, 1) := dk_27 (dk_at dksX0_easyOn_1 18 rfl rfl)
theorem dX0_easyOn_43 : decode cX0_easyOn 43 = .ok (.if_icmp .eq 53, 3) := dk_159 0 53 (dk_at dksX0_easyOn_1 19 rfl rfl)
theorem dX0_easyOn_46 : decode cX0_easyOn 46 = .ok (.aload_n 0, 1) := dk_42 (dk_at dksX0_easyOn_1 22 rfl rfl)
theorem dX0_easyOn_47 : decode cX0_easyOn 47 = .ok (.iload_n 1, 1) := dk_27 (dk_at dksX0_easyOn_1 23 rfl rfl)
theorem dX0_easyOn_48 : decode cX0_easyOn 48 = .ok (.iload_n 3, 1) := dk_29 (dk_at dksX0_easyOn_2 0 rfl rfl)
theorem dX0_easyOn_49 : decode cX0_easyOn 49 = .ok (.invokevirtual 354, 3) := dk_182 1 98 (dk_at dksX0_easyOn_2 1 rfl rfl)
theorem dX0_easyOn_52 : decode cX0_easyOn 52 = .ok (.lconst 0, 1) := dk_9 (dk_at dksX0_easyOn_2 4 rfl rfl)
theorem dX0_easyOn_53 : decode cX0_easyOn 53 = .ok (.lcmp, 1) := dk_148 (dk_at dksX0_easyOn_2 5 rfl rfl)
theorem dX0_easyOn_54 : decode cX0_easyOn 54 = .ok (.ifCond .ne 6, 3) := dk_154 0 6 (dk_at dksX0_easyOn_2 6 rfl rfl)
theorem dX0_easyOn_57 : decode cX0_easyOn 57 = .ok (.goto 39, 3) := dk_167 0 39 (dk_at dksX0_easyOn_2 9 rfl rfl)
theorem dX0_easyOn_60 : decode cX0_easyOn 60 = .ok (.iload_n 2, 1) := dk_28 (dk_at dksX0_easyOn_2 12 rfl rfl)
theorem dX0_easyOn_61 : decode cX0_easyOn 61 = .ok (.ifCond .lt 33, 3) := dk_155 0 33 (dk_at dksX0_easyOn_2 13 rfl rfl)
theorem dX0_easyOn_64 : decode cX0_easyOn 64 = .ok (.aload_n 0, 1) := dk_42 (dk_at dksX0_easyOn_2 16 rfl rfl)
theorem dX0_easyOn_65 : decode cX0_easyOn 65 = .ok (.iload_n 1, 1) := dk_27 (dk_at dksX0_easyOn_2 17 rfl rfl)
theorem dX0_easyOn_66 : decode cX0_easyOn 66 = .ok (.iload_n 3, 1) := dk_29 (dk_at dksX0_easyOn_2 18 rfl rfl)
theorem dX0_easyOn_67 : decode cX0_easyOn 67 = .ok (.invokevirtual 361, 3) := dk_182 1 105 (dk_at dksX0_easyOn_2 19 rfl rfl)
theorem dX0_easyOn_70 : decode cX0_easyOn 70 = .ok (.aload_n 0, 1) := dk_42 (dk_at dksX0_easyOn_2 22 rfl rfl)
theorem dX0_easyOn_71 : decode cX0_easyOn 71 = .ok (.iload_n 1, 1) := dk_27 (dk_at dksX0_easyOn_2 23 rfl rfl)
theorem dX0_easyOn_72 : decode cX0_easyOn 72 = .ok (.iload_n 2, 1) := dk_28 (dk_at dksX0_easyOn_3 0 rfl rfl)
theorem dX0_easyOn_73 : decode cX0_easyOn 73 = .ok (.invokevirtual 354, 3) := dk_182 1 98 (dk_at dksX0_easyOn_3 1 rfl rfl)
theorem dX0_easyOn_76 : decode cX0_easyOn 76 = .ok (.lmul, 1) := dk_105 (dk_at dksX0_easyOn_3 4 rfl rfl)
theorem dX0_easyOn_77 : decode cX0_easyOn 77 = .ok (.aload_n 0, 1) := dk_42 (dk_at dksX0_easyOn_3 5 rfl rfl)
theorem dX0_easyOn_78 : decode cX0_easyOn 78 = .ok (.iload_n 1, 1) := dk_27 (dk_at dksX0_easyOn_3 6 rfl rfl)
theorem dX0_easyOn_79 : decode cX0_easyOn 79 = .ok (.iload_n 2, 1) := dk_28 (dk_at dksX0_easyOn_3 7 rfl rfl)
theorem dX0_easyOn_80 : decode cX0_easyOn 80 = .ok (.invokevirtual 361, 3) := dk_182 1 105 (dk_at dksX0_easyOn_3 8 rfl rfl)
theorem dX0_easyOn_83 : decode cX0_easyOn 83 = .ok (.aload_n 0, 1) := dk_42 (dk_at dksX0_easyOn_3 11 rfl rfl)
theorem dX0_easyOn_84 : decode cX0_easyOn 84 = .ok (.iload_n 1, 1) := dk_27 (dk_at dksX0_easyOn_3 12 rfl rfl)
theorem dX0_easyOn_85 : decode cX0_easyOn 85 = .ok (.iload_n 3, 1) := dk_29 (dk_at dksX0_easyOn_3 13 rfl rfl)
theorem dX0_easyOn_86 : decode cX0_easyOn 86 = .ok (.invokevirtual 354, 3) := dk_182 1 98 (dk_at dksX0_easyOn_3 14 rfl rfl)
theorem dX0_easyOn_89 : decode cX0_easyOn 89 = .ok (.lmul, 1) := dk_105 (dk_at dksX0_easyOn_3 17 rfl rfl)
theorem dX0_easyOn_90 : decode cX0_easyOn 90 = .ok (.lcmp, 1) := dk_148 (dk_at dksX0_easyOn_3 18 rfl rfl)
theorem dX0_easyOn_91 : decode cX0_easyOn 91 = .ok (.ifCond .ge 5, 3) := dk_156 0 5 (dk_at dksX0_easyOn_3 19 rfl rfl)
theorem dX0_easyOn_94 : decode cX0_easyOn 94 = .ok (.iload_n 3, 1) := dk_29 (dk_at dksX0_easyOn_3 22 rfl rfl)
theorem dX0_easyOn_95 : decode cX0_easyOn 95 = .ok (.istore_n 2, 1) := dk_61 (dk_at dksX0_easyOn_3 23 rfl rfl)
theorem dX0_easyOn_96 : decode cX0_easyOn 96 = .ok (.iinc 3 1, 3) := dk_132 3 1 (dk_at dksX0_easyOn_4 0 rfl rfl)
theorem dX0_easyOn_99 : decode cX0_easyOn 99 = .ok (.goto (-69), 3) := dk_167 255 187 (dk_at dksX0_easyOn_4 3 rfl rfl)
theorem dX0_easyOn_102 : decode cX0_easyOn 102 = .ok (.aload_n 0, 1) := dk_42 (dk_at dksX0_easyOn_4 6 rfl rfl)
theorem dX0_easyOn_103 : decode cX0_easyOn 103 = .ok (.iload_n 2, 1) := dk_28 (dk_at dksX0_easyOn_4 7 rfl rfl)
theorem dX0_easyOn_104 : decode cX0_easyOn 104 = .ok (.invokevirtual 296, 3) := dk_182 1 40 (dk_at dksX0_easyOn_4 8 rfl rfl)
theorem dX0_easyOn_107 : decode cX0_easyOn 107 = .ok (.ireturn, 1) := dk_172 (dk_at dksX0_easyOn_4 11 rfl rfl)
abbrev cX0_regret : ByteArray := prog_1_method_66_code
def yX0_regret : MethodName := ⟨RX0, "regret", "(I)I"⟩
def dkwX0_regret_1 : List UInt8 := [2, 167, 0, 8, 42, 27, 182, 1, 128, 172]
abbrev dktX0_regret_1 : List UInt8 := dkwX0_regret_1 ++ []
def dkwX0_regret_0 : List UInt8 := [42, 42, 27, 182, 0, 174, 153, 0, 7, 3, 167, 0, 4, 4, 181, 0, 82, 42, 180, 0, 82, 158, 0, 7]
abbrev dktX0_regret_0 : List UInt8 := dkwX0_regret_0 ++ dktX0_regret_1
theorem dksX0_regret_0 : cX0_regret.data.toList.drop 0 = dktX0_regret_0 := by decide +kernel
theorem dksX0_regret_1 : cX0_regret.data.toList.drop 24 = dktX0_regret_1 := dk_seg dksX0_regret_0 24 rfl rfl
theorem dX0_regret_0 : decode cX0_regret 0 = .ok (.aload_n 0, 1) := dk_42 (dk_at dksX0_regret_0 0 rfl rfl)
theorem dX0_regret_1 : decode cX0_regret 1 = .ok (.aload_n 0, 1) := dk_42 (dk_at dksX0_regret_0 1 rfl rfl)
theorem dX0_regret_2 : decode cX0_regret 2 = .ok (.iload_n 1, 1) := dk_27 (dk_at dksX0_regret_0 2 rfl rfl)
theorem dX0_regret_3 : decode cX0_regret 3 = .ok (.invokevirtual 174, 3) := dk_182 0 174 (dk_at dksX0_regret_0 3 rfl rfl)
theorem dX0_regret_6 : decode cX0_regret 6 = .ok (.ifCond .eq 7, 3) := dk_153 0 7 (dk_at dksX0_regret_0 6 rfl rfl)
theorem dX0_regret_9 : decode cX0_regret 9 = .ok (.iconst 0, 1) := dk_3 (dk_at dksX0_regret_0 9 rfl rfl)
theorem dX0_regret_10 : decode cX0_regret 10 = .ok (.goto 4, 3) := dk_167 0 4 (dk_at dksX0_regret_0 10 rfl rfl)
theorem dX0_regret_13 : decode cX0_regret 13 = .ok (.iconst 1, 1) := dk_4 (dk_at dksX0_regret_0 13 rfl rfl)
theorem dX0_regret_14 : decode cX0_regret 14 = .ok (.putfield 82, 3) := dk_181 0 82 (dk_at dksX0_regret_0 14 rfl rfl)
theorem dX0_regret_17 : decode cX0_regret 17 = .ok (.aload_n 0, 1) := dk_42 (dk_at dksX0_regret_0 17 rfl rfl)
theorem dX0_regret_18 : decode cX0_regret 18 = .ok (.getfield 82, 3) := dk_180 0 82 (dk_at dksX0_regret_0 18 rfl rfl)
theorem dX0_regret_21 : decode cX0_regret 21 = .ok (.ifCond .le 7, 3) := dk_158 0 7 (dk_at dksX0_regret_0 21 rfl rfl)
theorem dX0_regret_24 : decode cX0_regret 24 = .ok (.iconst (-1), 1) := dk_2 (dk_at dksX0_regret_1 0 rfl rfl)
theorem dX0_regret_25 : decode cX0_regret 25 = .ok (.goto 8, 3) := dk_167 0 8 (dk_at dksX0_regret_1 1 rfl rfl)
theorem dX0_regret_28 : decode cX0_regret 28 = .ok (.aload_n 0, 1) := dk_42 (dk_at dksX0_regret_1 4 rfl rfl)
theorem dX0_regret_29 : decode cX0_regret 29 = .ok (.iload_n 1, 1) := dk_27 (dk_at dksX0_regret_1 5 rfl rfl)
theorem dX0_regret_30 : decode cX0_regret 30 = .ok (.invokevirtual 384, 3) := dk_182 1 128 (dk_at dksX0_regret_1 6 rfl rfl)
theorem dX0_regret_33 : decode cX0_regret 33 = .ok (.ireturn, 1) := dk_172 (dk_at dksX0_regret_1 9 rfl rfl)
abbrev cX0_regretOf : ByteArray := prog_1_method_65_code
def yX0_regretOf : MethodName := ⟨RX0, "regretOf", "(I)I"⟩
def dkwX0_regretOf_1 : List UInt8 := [182, 0, 163, 27, 182, 1, 125, 100, 172]
abbrev dktX0_regretOf_1 : List UInt8 := dkwX0_regretOf_1 ++ []
def dkwX0_regretOf_0 : List UInt8 := [42, 27, 182, 1, 19, 180, 1, 31, 42, 182, 1, 2, 42, 182, 0, 163, 180, 0, 228, 27, 46, 100, 104, 42]
abbrev dktX0_regretOf_0 : List UInt8 := dkwX0_regretOf_0 ++ dktX0_regretOf_1
theorem dksX0_regretOf_0 : cX0_regretOf.data.toList.drop 0 = dktX0_regretOf_0 := by decide +kernel
theorem dksX0_regretOf_1 : cX0_regretOf.data.toList.drop 24 = dktX0_regretOf_1 := dk_seg dksX0_regretOf_0 24 rfl rfl
theorem dX0_regretOf_0 : decode cX0_regretOf 0 = .ok (.aload_n 0, 1) := dk_42 (dk_at dksX0_regretOf_0 0 rfl rfl)
theorem dX0_regretOf_1 : decode cX0_regretOf 1 = .ok (.iload_n 1, 1) := dk_27 (dk_at dksX0_regretOf_0 1 rfl rfl)
theorem dX0_regretOf_2 : decode cX0_regretOf 2 = .ok (.invokevirtual 275, 3) := dk_182 1 19 (dk_at dksX0_regretOf_0 2 rfl rfl)
theorem dX0_regretOf_5 : decode cX0_regretOf 5 = .ok (.getfield 287, 3) := dk_180 1 31 (dk_at dksX0_regretOf_0 5 rfl rfl)
theorem dX0_regretOf_8 : decode cX0_regretOf 8 = .ok (.aload_n 0, 1) := dk_42 (dk_at dksX0_regretOf_0 8 rfl rfl)
theorem dX0_regretOf_9 : decode cX0_regretOf 9 = .ok (.invokevirtual 258, 3) := dk_182 1 2 (dk_at dksX0_regretOf_0 9 rfl rfl)
theorem dX0_regretOf_12 : decode cX0_regretOf 12 = .ok (.aload_n 0, 1) := dk_42 (dk_at dksX0_regretOf_0 12 rfl rfl)
theorem dX0_regretOf_13 : decode cX0_regretOf 13 = .ok (.invokevirtual 163, 3) := dk_182 0 163 (dk_at dksX0_regretOf_0 13 rfl rfl)
theorem dX0_regretOf_16 : decode cX0_regretOf 16 = .ok (.getfield 228, 3) := dk_180 0 228 (dk_at dksX0_regretOf_0 16 rfl rfl)
theorem dX0_regretOf_19 : decode cX0_regretOf 19 = .ok (.iload_n 1, 1) := dk_27 (dk_at dksX0_regretOf_0 19 rfl rfl)
theorem dX0_regretOf_20 : decode cX0_regretOf 20 = .ok (.iaload, 1) := dk_46 (dk_at dksX0_regretOf_0 20 rfl rfl)
theorem dX0_regretOf_21 : decode cX0_regretOf 21 = .ok (.isub, 1) := dk_100 (dk_at dksX0_regretOf_0 21 rfl rfl)
theorem dX0_regretOf_22 : decode cX0_regretOf 22 = .ok (.imul, 1) := dk_104 (dk_at dksX0_regretOf_0 22 rfl rfl)
theorem dX0_regretOf_23 : decode cX0_regretOf 23 = .ok (.aload_n 0, 1) := dk_42 (dk_at dksX0_regretOf_0 23 rfl rfl)
theorem dX0_regretOf_24 : decode cX0_regretOf 24 = .ok (.invokevirtual 163, 3) := dk_182 0 163 (dk_at dksX0_regretOf_1 0 rfl rfl)
theorem dX0_regretOf_27 : decode cX0_regretOf 27 = .ok (.iload_n 1, 1) := dk_27 (dk_at dksX0_regretOf_1 3 rfl rfl)
theorem dX0_regretOf_28 : decode cX0_regretOf 28 = .ok (.invokevirtual 381, 3) := dk_182 1 125 (dk_at dksX0_regretOf_1 4 rfl rfl)
theorem dX0_regretOf_31 : decode cX0_regretOf 31 = .ok (.isub, 1) := dk_100 (dk_at dksX0_regretOf_1 7 rfl rfl)
theorem dX0_regretOf_32 : decode cX0_regretOf 32 = .ok (.ireturn, 1) := dk_172 (dk_at dksX0_regretOf_1 8 rfl rfl)
abbrev cX0_sorest : ByteArray := prog_1_method_67_code
def yX0_sorest : MethodName := ⟨RX0, "sorest", "()I"⟩
def dkwX0_sorest_1 : List UInt8 := [42, 27, 182, 1, 128, 164, 0, 5, 28, 60, 132, 2, 1, 167, 255, 223, 42, 27, 182, 1, 40, 172]
abbrev dktX0_sorest_1 : List UInt8 := dkwX0_sorest_1 ++ []
def dkwX0_sorest_0 : List UInt8 := [2, 60, 3, 61, 28, 42, 182, 0, 163, 180, 0, 167, 162, 0, 28, 27, 155, 0, 16, 42, 28, 182, 1, 128]
abbrev dktX0_sorest_0 : List UInt8 := dkwX0_sorest_0 ++ dktX0_sorest_1
theorem dksX0_sorest_0 : cX0_sorest.data.toList.drop 0 = dktX0_sorest_0 := by decide +kernel
theorem dksX0_sorest_1 : cX0_sorest.data.toList.drop 24 = dktX0_sorest_1 := dk_seg dksX0_sorest_0 24 rfl rfl
theorem dX0_sorest_0 : decode cX0_sorest 0 = .ok (.iconst (-1), 1) := dk_2 (dk_at dksX0_sorest_0 0 rfl rfl)
theorem dX0_sorest_1 : decode cX0_sorest 1 = .ok (.istore_n 1, 1) := dk_60 (dk_at dksX0_sorest_0 1 rfl rfl)
theorem dX0_sorest_2 : decode cX0_sorest 2 = .ok (.iconst 0, 1) := dk_3 (dk_at dksX0_sorest_0 2 rfl rfl)
theorem dX0_sorest_3 : decode cX0_sorest 3 = .ok (.istore_n 2, 1) := dk_61 (dk_at dksX0_sorest_0 3 rfl rfl)
theorem dX0_sorest_4 : decode cX0_sorest 4 = .ok (.iload_n 2, 1) := dk_28 (dk_at dksX0_sorest_0 4 rfl rfl)
theorem dX0_sorest_5 : decode cX0_sorest 5 = .ok (.aload_n 0, 1) := dk_42 (dk_at dksX0_sorest_0 5 rfl rfl)
theorem dX0_sorest_6 : decode cX0_sorest 6 = .ok (.invokevirtual 163, 3) := dk_182 0 163 (dk_at dksX0_sorest_0 6 rfl rfl)
theorem dX0_sorest_9 : decode cX0_sorest 9 = .ok (.getfield 167, 3) := dk_180 0 167 (dk_at dksX0_sorest_0 9 rfl rfl)
theorem dX0_sorest_12 : decode cX0_sorest 12 = .ok (.if_icmp .ge 28, 3) := dk_162 0 28 (dk_at dksX0_sorest_0 12 rfl rfl)
theorem dX0_sorest_15 : decode cX0_sorest 15 = .ok (.iload_n 1, 1) := dk_27 (dk_at dksX0_sorest_0 15 rfl rfl)
theorem dX0_sorest_16 : decode cX0_sorest 16 = .ok (.ifCond .lt 16, 3) := dk_155 0 16 (dk_at dksX0_sorest_0 16 rfl rfl)
theorem dX0_sorest_19 : decode cX0_sorest 19 = .ok (.aload_n 0, 1) := dk_42 (dk_at dksX0_sorest_0 19 rfl rfl)
theorem dX0_sorest_20 : decode cX0_sorest 20 = .ok (.iload_n 2, 1) := dk_28 (dk_at dksX0_sorest_0 20 rfl rfl)
theorem dX0_sorest_21 : decode cX0_sorest 21 = .ok (.invokevirtual 384, 3) := dk_182 1 128 (dk_at dksX0_sorest_0 21 rfl rfl)
theorem dX0_sorest_24 : decode cX0_sorest 24 = .ok (.aload_n 0, 1) := dk_42 (dk_at dksX0_sorest_1 0 rfl rfl)
theorem dX0_sorest_25 : decode cX0_sorest 25 = .ok (.iload_n 1, 1) := dk_27 (dk_at dksX0_sorest_1 1 rfl rfl)
theorem dX0_sorest_26 : decode cX0_sorest 26 = .ok (.invokevirtual 384, 3) := dk_182 1 128 (dk_at dksX0_sorest_1 2 rfl rfl)
theorem dX0_sorest_29 : decode cX0_sorest 29 = .ok (.if_icmp .le 5, 3) := dk_164 0 5 (dk_at dksX0_sorest_1 5 rfl rfl)
theorem dX0_sorest_32 : decode cX0_sorest 32 = .ok (.iload_n 2, 1) := dk_28 (dk_at dksX0_sorest_1 8 rfl rfl)
theorem dX0_sorest_33 : decode cX0_sorest 33 = .ok (.istore_n 1, 1) := dk_60 (dk_at dksX0_sorest_1 9 rfl rfl)
theorem dX0_sorest_34 : decode cX0_sorest 34 = .ok (.iinc 2 1, 3) := dk_132 2 1 (dk_at dksX0_sorest_1 10 rfl rfl)
theorem dX0_sorest_37 : decode cX0_sorest 37 = .ok (.goto (-33), 3) := dk_167 255 223 (dk_at dksX0_sorest_1 13 rfl rfl)
theorem dX0_sorest_40 : decode cX0_sorest 40 = .ok (.aload_n 0, 1) := dk_42 (dk_at dksX0_sorest_1 16 rfl rfl)
theorem dX0_sorest_41 : decode cX0_sorest 41 = .ok (.iload_n 1, 1) := dk_27 (dk_at dksX0_sorest_1 17 rfl rfl)
theorem dX0_sorest_42 : decode cX0_sorest 42 = .ok (.invokevirtual 296, 3) := dk_182 1 40 (dk_at dksX0_sorest_1 18 rfl rfl)
theorem dX0_sorest_45 : decode cX0_sorest 45 = .ok (.ireturn, 1) := dk_172 (dk_at dksX0_sorest_1 21 rfl rfl)
abbrev cX0_owes : ByteArray := prog_1_method_68_code
def yX0_owes : MethodName := ⟨RX0, "owes", "(II)I"⟩
def dkwX0_owes_1 : List UInt8 := [158, 0, 7, 2, 167, 0, 12, 42, 182, 0, 163, 27, 28, 182, 1, 131, 172]
abbrev dktX0_owes_1 : List UInt8 := dkwX0_owes_1 ++ []
def dkwX0_owes_0 : List UInt8 := [42, 42, 27, 28, 182, 1, 95, 153, 0, 7, 3, 167, 0, 4, 4, 181, 0, 82, 42, 180, 0, 82]
abbrev dktX0_owes_0 : List UInt8 := dkwX0_owes_0 ++ dktX0_owes_1
theorem dksX0_owes_0 : cX0_owes.data.toList.drop 0 = dktX0_owes_0 := by decide +kernel
theorem dksX0_owes_1 : cX0_owes.data.toList.drop 22 = dktX0_owes_1 := dk_seg dksX0_owes_0 22 rfl rfl
theorem dX0_owes_0 : decode cX0_owes 0 = .ok (.aload_n 0, 1) := dk_42 (dk_at dksX0_owes_0 0 rfl rfl)
theorem dX0_owes_1 : decode cX0_owes 1 = .ok (.aload_n 0, 1) := dk_42 (dk_at dksX0_owes_0 1 rfl rfl)
theorem dX0_owes_2 : decode cX0_owes 2 = .ok (.iload_n 1, 1) := dk_27 (dk_at dksX0_owes_0 2 rfl rfl)
theorem dX0_owes_3 : decode cX0_owes 3 = .ok (.iload_n 2, 1) := dk_28 (dk_at dksX0_owes_0 3 rfl rfl)
theorem dX0_owes_4 : decode cX0_owes 4 = .ok (.invokevirtual 351, 3) := dk_182 1 95 (dk_at dksX0_owes_0 4 rfl rfl)
theorem dX0_owes_7 : decode cX0_owes 7 = .ok (.ifCond .eq 7, 3) := dk_153 0 7 (dk_at dksX0_owes_0 7 rfl rfl)
theorem dX0_owes_10 : decode cX0_owes 10 = .ok (.iconst 0, 1) := dk_3 (dk_at dksX0_owes_0 10 rfl rfl)
theorem dX0_owes_11 : decode cX0_owes 11 = .ok (.goto 4, 3) := dk_167 0 4 (dk_at dksX0_owes_0 11 rfl rfl)
theorem dX0_owes_14 : decode cX0_owes 14 = .ok (.iconst 1, 1) := dk_4 (dk_at dksX0_owes_0 14 rfl rfl)
theorem dX0_owes_15 : decode cX0_owes 15 = .ok (.putfield 82, 3) := dk_181 0 82 (dk_at dksX0_owes_0 15 rfl rfl)
theorem dX0_owes_18 : decode cX0_owes 18 = .ok (.aload_n 0, 1) := dk_42 (dk_at dksX0_owes_0 18 rfl rfl)
theorem dX0_owes_19 : decode cX0_owes 19 = .ok (.getfield 82, 3) := dk_180 0 82 (dk_at dksX0_owes_0 19 rfl rfl)
theorem dX0_owes_22 : decode cX0_owes 22 = .ok (.ifCond .le 7, 3) := dk_158 0 7 (dk_at dksX0_owes_1 0 rfl rfl)
theorem dX0_owes_25 : decode cX0_owes 25 = .ok (.iconst (-1), 1) := dk_2 (dk_at dksX0_owes_1 3 rfl rfl)
theorem dX0_owes_26 : decode cX0_owes 26 = .ok (.goto 12, 3) := dk_167 0 12 (dk_at dksX0_owes_1 4 rfl rfl)
theorem dX0_owes_29 : decode cX0_owes 29 = .ok (.aload_n 0, 1) := dk_42 (dk_at dksX0_owes_1 7 rfl rfl)
theorem dX0_owes_30 : decode cX0_owes 30 = .ok (.invokevirtual 163, 3) := dk_182 0 163 (dk_at dksX0_owes_1 8 rfl rfl)
theorem dX0_owes_33 : decode cX0_owes 33 = .ok (.iload_n 1, 1) := dk_27 (dk_at dksX0_owes_1 11 rfl rfl)
theorem dX0_owes_34 : decode cX0_owes 34 = .ok (.iload_n 2, 1) := dk_28 (dk_at dksX0_owes_1 12 rfl rfl)
theorem dX0_owes_35 : decode cX0_owes 35 = .ok (.invokevirtual 387, 3) := dk_182 1 131 (dk_at dksX0_owes_1 13 rfl rfl)
theorem dX0_owes_38 : decode cX0_owes 38 = .ok (.ireturn, 1) := dk_172 (dk_at dksX0_owes_1 16 rfl rfl)
abbrev cX0_lend : ByteArray := prog_1_method_69_code
def yX0_lend : MethodName := ⟨RX0, "lend", "(III)I"⟩
def dkwX0_lend_2 : List UInt8 := [181, 0, 82, 42, 180, 0, 82, 158, 0, 7, 2, 167, 0, 12, 42, 182, 0, 163, 28, 27, 182, 1, 131, 172]
abbrev dktX0_lend_2 : List UInt8 := dkwX0_lend_2 ++ []
def dkwX0_lend_1 : List UInt8 := [167, 0, 22, 42, 182, 0, 163, 27, 28, 29, 182, 1, 134, 153, 0, 7, 3, 167, 0, 5, 16, 7]
abbrev dktX0_lend_1 : List UInt8 := dkwX0_lend_1 ++ dktX0_lend_2
def dkwX0_lend_0 : List UInt8 := [42, 42, 27, 28, 182, 1, 95, 153, 0, 15, 29, 133, 10, 20, 1, 85, 184, 0, 170, 154, 0, 7, 4]
abbrev dktX0_lend_0 : List UInt8 := dkwX0_lend_0 ++ dktX0_lend_1
theorem dksX0_lend_0 : cX0_lend.data.toList.drop 0 = dktX0_lend_0 := by decide +kernel
theorem dksX0_lend_1 : cX0_lend.data.toList.drop 23 = dktX0_lend_1 := dk_seg dksX0_lend_0 23 rfl rfl
theorem dksX0_lend_2 : cX0_lend.data.toList.drop 45 = dktX0_lend_2 := dk_seg dksX0_lend_1 22 rfl rfl
theorem dX0_lend_0 : decode cX0_lend 0 = .ok (.aload_n 0, 1) := dk_42 (dk_at dksX0_lend_0 0 rfl rfl)
theorem dX0_lend_1 : decode cX0_lend 1 = .ok (.aload_n 0, 1) := dk_42 (dk_at dksX0_lend_0 1 rfl rfl)
theorem dX0_lend_2 : decode cX0_lend 2 = .ok (.iload_n 1, 1) := dk_27 (dk_at dksX0_lend_0 2 rfl rfl)
theorem dX0_lend_3 : decode cX0_lend 3 = .ok (.iload_n 2, 1) := dk_28 (dk_at dksX0_lend_0 3 rfl rfl)
theorem dX0_lend_4 : decode cX0_lend 4 = .ok (.invokevirtual 351, 3) := dk_182 1 95 (dk_at dksX0_lend_0 4 rfl rfl)
theorem dX0_lend_7 : decode cX0_lend 7 = .ok (.ifCond .eq 15, 3) := dk_153 0 15 (dk_at dksX0_lend_0 7 rfl rfl)
theorem dX0_lend_10 : decode cX0_lend 10 = .ok (.iload_n 3, 1) := dk_29 (dk_at dksX0_lend_0 10 rfl rfl)
theorem dX0_lend_11 : decode cX0_lend 11 = .ok (.i2l, 1) := dk_133 (dk_at dksX0_lend_0 11 rfl rfl)
theorem dX0_lend_12 : decode cX0_lend 12 = .ok (.lconst 1, 1) := dk_10 (dk_at dksX0_lend_0 12 rfl rfl)
theorem dX0_lend_13 : decode cX0_lend 13 = .ok (.ldc2_w 341, 3) := dk_20 1 85 (dk_at dksX0_lend_0 13 rfl rfl)
theorem dX0_lend_16 : decode cX0_lend 16 = .ok (.invokestatic 170, 3) := dk_184 0 170 (dk_at dksX0_lend_0 16 rfl rfl)
theorem dX0_lend_19 : decode cX0_lend 19 = .ok (.ifCond .ne 7, 3) := dk_154 0 7 (dk_at dksX0_lend_0 19 rfl rfl)
theorem dX0_lend_22 : decode cX0_lend 22 = .ok (.iconst 1, 1) := dk_4 (dk_at dksX0_lend_0 22 rfl rfl)
theorem dX0_lend_23 : decode cX0_lend 23 = .ok (.goto 22, 3) := dk_167 0 22 (dk_at dksX0_lend_1 0 rfl rfl)
theorem dX0_lend_26 : decode cX0_lend 26 = .ok (.aload_n 0, 1) := dk_42 (dk_at dksX0_lend_1 3 rfl rfl)
theorem dX0_lend_27 : decode cX0_lend 27 = .ok (.invokevirtual 163, 3) := dk_182 0 163 (dk_at dksX0_lend_1 4 rfl rfl)
theorem dX0_lend_30 : decode cX0_lend 30 = .ok (.iload_n 1, 1) := dk_27 (dk_at dksX0_lend_1 7 rfl rfl)
theorem dX0_lend_31 : decode cX0_lend 31 = .ok (.iload_n 2, 1) := dk_28 (dk_at dksX0_lend_1 8 rfl rfl)
theorem dX0_lend_32 : decode cX0_lend 32 = .ok (.iload_n 3, 1) := dk_29 (dk_at dksX0_lend_1 9 rfl rfl)
theorem dX0_lend_33 : decode cX0_lend 33 = .ok (.invokevirtual 390, 3) := dk_182 1 134 (dk_at dksX0_lend_1 10 rfl rfl)
theorem dX0_lend_36 : decode cX0_lend 36 = .ok (.ifCond .eq 7, 3) := dk_153 0 7 (dk_at dksX0_lend_1 13 rfl rfl)
theorem dX0_lend_39 : decode cX0_lend 39 = .ok (.iconst 0, 1) := dk_3 (dk_at dksX0_lend_1 16 rfl rfl)
theorem dX0_lend_40 : decode cX0_lend 40 = .ok (.goto 5, 3) := dk_167 0 5 (dk_at dksX0_lend_1 17 rfl rfl)
theorem dX0_lend_43 : decode cX0_lend 43 = .ok (.bipush 7, 2) := dk_16 7 (dk_at dksX0_lend_1 20 rfl rfl)
theorem dX0_lend_45 : decode cX0_lend 45 = .ok (.putfield 82, 3) := dk_181 0 82 (dk_at dksX0_lend_2 0 rfl rfl)
theorem dX0_lend_48 : decode cX0_lend 48 = .ok (.aload_n 0, 1) := dk_42 (dk_at dksX0_lend_2 3 rfl rfl)
theorem dX0_lend_49 : decode cX0_lend 49 = .ok (.getfield 82, 3) := dk_180 0 82 (dk_at dksX0_lend_2 4 rfl rfl)
theorem dX0_lend_52 : decode cX0_lend 52 = .ok (.ifCond .le 7, 3) := dk_158 0 7 (dk_at dksX0_lend_2 7 rfl rfl)
theorem dX0_lend_55 : decode cX0_lend 55 = .ok (.iconst (-1), 1) := dk_2 (dk_at dksX0_lend_2 10 rfl rfl)
theorem dX0_lend_56 : decode cX0_lend 56 = .ok (.goto 12, 3) := dk_167 0 12 (dk_at dksX0_lend_2 11 rfl rfl)
theorem dX0_lend_59 : decode cX0_lend 59 = .ok (.aload_n 0, 1) := dk_42 (dk_at dksX0_lend_2 14 rfl rfl)
theorem dX0_lend_60 : decode cX0_lend 60 = .ok (.invokevirtual 163, 3) := dk_182 0 163 (dk_at dksX0_lend_2 15 rfl rfl)
theorem dX0_lend_63 : decode cX0_lend 63 = .ok (.iload_n 2, 1) := dk_28 (dk_at dksX0_lend_2 18 rfl rfl)
theorem dX0_lend_64 : decode cX0_lend 64 = .ok (.iload_n 1, 1) := dk_27 (dk_at dksX0_lend_2 19 rfl rfl)
theorem dX0_lend_65 : decode cX0_lend 65 = .ok (.invokevirtual 387, 3) := dk_182 1 131 (dk_at dksX0_lend_2 20 rfl rfl)
theorem dX0_lend_68 : decode cX0_lend 68 = .ok (.ireturn, 1) := dk_172 (dk_at dksX0_lend_2 23 rfl rfl)
abbrev cX0_balance : ByteArray := prog_1_method_70_code
def yX0_balance : MethodName := ⟨RX0, "balance", "(I)I"⟩
def dkwX0_balance_1 : List UInt8 := [2, 167, 0, 11, 42, 182, 0, 163, 27, 182, 1, 125, 172]
abbrev dktX0_balance_1 : List UInt8 := dkwX0_balance_1 ++ []
def dkwX0_balance_0 : List UInt8 := [42, 42, 27, 182, 0, 174, 153, 0, 7, 3, 167, 0, 4, 4, 181, 0, 82, 42, 180, 0, 82, 158, 0, 7]
abbrev dktX0_balance_0 : List UInt8 := dkwX0_balance_0 ++ dktX0_balance_1
theorem dksX0_balance_0 : cX0_balance.data.toList.drop 0 = dktX0_balance_0 := by decide +kernel
theorem dksX0_balance_1 : cX0_balance.data.toList.drop 24 = dktX0_balance_1 := dk_seg dksX0_balance_0 24 rfl rfl
theorem dX0_balance_0 : decode cX0_balance 0 = .ok (.aload_n 0, 1) := dk_42 (dk_at dksX0_balance_0 0 rfl rfl)
theorem dX0_balance_1 : decode cX0_balance 1 = .ok (.aload_n 0, 1) := dk_42 (dk_at dksX0_balance_0 1 rfl rfl)
theorem dX0_balance_2 : decode cX0_balance 2 = .ok (.iload_n 1, 1) := dk_27 (dk_at dksX0_balance_0 2 rfl rfl)
theorem dX0_balance_3 : decode cX0_balance 3 = .ok (.invokevirtual 174, 3) := dk_182 0 174 (dk_at dksX0_balance_0 3 rfl rfl)
theorem dX0_balance_6 : decode cX0_balance 6 = .ok (.ifCond .eq 7, 3) := dk_153 0 7 (dk_at dksX0_balance_0 6 rfl rfl)
theorem dX0_balance_9 : decode cX0_balance 9 = .ok (.iconst 0, 1) := dk_3 (dk_at dksX0_balance_0 9 rfl rfl)
theorem dX0_balance_10 : decode cX0_balance 10 = .ok (.goto 4, 3) := dk_167 0 4 (dk_at dksX0_balance_0 10 rfl rfl)
theorem dX0_balance_13 : decode cX0_balance 13 = .ok (.iconst 1, 1) := dk_4 (dk_at dksX0_balance_0 13 rfl rfl)
theorem dX0_balance_14 : decode cX0_balance 14 = .ok (.putfield 82, 3) := dk_181 0 82 (dk_at dksX0_balance_0 14 rfl rfl)
theorem dX0_balance_17 : decode cX0_balance 17 = .ok (.aload_n 0, 1) := dk_42 (dk_at dksX0_balance_0 17 rfl rfl)
theorem dX0_balance_18 : decode cX0_balance 18 = .ok (.getfield 82, 3) := dk_180 0 82 (dk_at dksX0_balance_0 18 rfl rfl)
theorem dX0_balance_21 : decode cX0_balance 21 = .ok (.ifCond .le 7, 3) := dk_158 0 7 (dk_at dksX0_balance_0 21 rfl rfl)
theorem dX0_balance_24 : decode cX0_balance 24 = .ok (.iconst (-1), 1) := dk_2 (dk_at dksX0_balance_1 0 rfl rfl)
theorem dX0_balance_25 : decode cX0_balance 25 = .ok (.goto 11, 3) := dk_167 0 11 (dk_at dksX0_balance_1 1 rfl rfl)
theorem dX0_balance_28 : decode cX0_balance 28 = .ok (.aload_n 0, 1) := dk_42 (dk_at dksX0_balance_1 4 rfl rfl)
theorem dX0_balance_29 : decode cX0_balance 29 = .ok (.invokevirtual 163, 3) := dk_182 0 163 (dk_at dksX0_balance_1 5 rfl rfl)
theorem dX0_balance_32 : decode cX0_balance 32 = .ok (.iload_n 1, 1) := dk_27 (dk_at dksX0_balance_1 8 rfl rfl)
theorem dX0_balance_33 : decode cX0_balance 33 = .ok (.invokevirtual 381, 3) := dk_182 1 125 (dk_at dksX0_balance_1 9 rfl rfl)
theorem dX0_balance_36 : decode cX0_balance 36 = .ok (.ireturn, 1) := dk_172 (dk_at dksX0_balance_1 12 rfl rfl)
abbrev cX0_quits : ByteArray := prog_1_method_71_code
def yX0_quits : MethodName := ⟨RX0, "quits", "(II)I"⟩
def dkwX0_quits_3 : List UInt8 := [42, 182, 0, 163, 28, 27, 42, 182, 0, 163, 28, 27, 182, 1, 131, 29, 100, 182, 1, 140, 29, 172]
abbrev dktX0_quits_3 : List UInt8 := dkwX0_quits_3 ++ []
def dkwX0_quits_2 : List UInt8 := [184, 1, 137, 62, 42, 182, 0, 163, 27, 28, 42, 182, 0, 163, 27, 28, 182, 1, 131, 29, 100, 182, 1, 140]
abbrev dktX0_quits_2 : List UInt8 := dkwX0_quits_2 ++ dktX0_quits_3
def dkwX0_quits_1 : List UInt8 := [158, 0, 5, 2, 172, 42, 182, 0, 163, 27, 28, 182, 1, 131, 42, 182, 0, 163, 28, 27, 182, 1, 131]
abbrev dktX0_quits_1 : List UInt8 := dkwX0_quits_1 ++ dktX0_quits_2
def dkwX0_quits_0 : List UInt8 := [42, 42, 27, 28, 182, 1, 95, 153, 0, 7, 3, 167, 0, 4, 4, 181, 0, 82, 42, 180, 0, 82]
abbrev dktX0_quits_0 : List UInt8 := dkwX0_quits_0 ++ dktX0_quits_1
theorem dksX0_quits_0 : cX0_quits.data.toList.drop 0 = dktX0_quits_0 := by decide +kernel
theorem dksX0_quits_1 : cX0_quits.data.toList.drop 22 = dktX0_quits_1 := dk_seg dksX0_quits_0 22 rfl rfl
theorem dksX0_quits_2 : cX0_quits.data.toList.drop 45 = dktX0_quits_2 := dk_seg dksX0_quits_1 23 rfl rfl
theorem dksX0_quits_3 : cX0_quits.data.toList.drop 69 = dktX0_quits_3 := dk_seg dksX0_quits_2 24 rfl rfl
theorem dX0_quits_0 : decode cX0_quits 0 = .ok (.aload_n 0, 1) := dk_42 (dk_at dksX0_quits_0 0 rfl rfl)
theorem dX0_quits_1 : decode cX0_quits 1 = .ok (.aload_n 0, 1) := dk_42 (dk_at dksX0_quits_0 1 rfl rfl)
theorem dX0_quits_2 : decode cX0_quits 2 = .ok (.iload_n 1, 1) := dk_27 (dk_at dksX0_quits_0 2 rfl rfl)
theorem dX0_quits_3 : decode cX0_quits 3 = .ok (.iload_n 2, 1) := dk_28 (dk_at dksX0_quits_0 3 rfl rfl)
theorem dX0_quits_4 : decode cX0_quits 4 = .ok (.invokevirtual 351, 3) := dk_182 1 95 (dk_at dksX0_quits_0 4 rfl rfl)
theorem dX0_quits_7 : decode cX0_quits 7 = .ok (.ifCond .eq 7, 3) := dk_153 0 7 (dk_at dksX0_quits_0 7 rfl rfl)
theorem dX0_quits_10 : decode cX0_quits 10 = .ok (.iconst 0, 1) := dk_3 (dk_at dksX0_quits_0 10 rfl rfl)
theorem dX0_quits_11 : decode cX0_quits 11 = .ok (.goto 4, 3) := dk_167 0 4 (dk_at dksX0_quits_0 11 rfl rfl)
theorem dX0_quits_14 : decode cX0_quits 14 = .ok (.iconst 1, 1) := dk_4 (dk_at dksX0_quits_0 14 rfl rfl)
theorem dX0_quits_15 : decode cX0_quits 15 = .ok (.putfield 82, 3) := dk_181 0 82 (dk_at dksX0_quits_0 15 rfl rfl)
theorem dX0_quits_18 : decode cX0_quits 18 = .ok (.aload_n 0, 1) := dk_42 (dk_at dksX0_quits_0 18 rfl rfl)
theorem dX0_quits_19 : decode cX0_quits 19 = .ok (.getfield 82, 3) := dk_180 0 82 (dk_at dksX0_quits_0 19 rfl rfl)
theorem dX0_quits_22 : decode cX0_quits 22 = .ok (.ifCond .le 5, 3) := dk_158 0 5 (dk_at dksX0_quits_1 0 rfl rfl)
theorem dX0_quits_25 : decode cX0_quits 25 = .ok (.iconst (-1), 1) := dk_2 (dk_at dksX0_quits_1 3 rfl rfl)
theorem dX0_quits_26 : decode cX0_quits 26 = .ok (.ireturn, 1) := dk_172 (dk_at dksX0_quits_1 4 rfl rfl)
theorem dX0_quits_27 : decode cX0_quits 27 = .ok (.aload_n 0, 1) := dk_42 (dk_at dksX0_quits_1 5 rfl rfl)
theorem dX0_quits_28 : decode cX0_quits 28 = .ok (.invokevirtual 163, 3) := dk_182 0 163 (dk_at dksX0_quits_1 6 rfl rfl)
theorem dX0_quits_31 : decode cX0_quits 31 = .ok (.iload_n 1, 1) := dk_27 (dk_at dksX0_quits_1 9 rfl rfl)
theorem dX0_quits_32 : decode cX0_quits 32 = .ok (.iload_n 2, 1) := dk_28 (dk_at dksX0_quits_1 10 rfl rfl)
theorem dX0_quits_33 : decode cX0_quits 33 = .ok (.invokevirtual 387, 3) := dk_182 1 131 (dk_at dksX0_quits_1 11 rfl rfl)
theorem dX0_quits_36 : decode cX0_quits 36 = .ok (.aload_n 0, 1) := dk_42 (dk_at dksX0_quits_1 14 rfl rfl)
theorem dX0_quits_37 : decode cX0_quits 37 = .ok (.invokevirtual 163, 3) := dk_182 0 163 (dk_at dksX0_quits_1 15 rfl rfl)
theorem dX0_quits_40 : decode cX0_quits 40 = .ok (.iload_n 2, 1) := dk_28 (dk_at dksX0_quits_1 18 rfl rfl)
theorem dX0_quits_41 : decode cX0_quits 41 = .ok (.iload_n 1, 1) := dk_27 (dk_at dksX0_quits_1 19 rfl rfl)
theorem dX0_quits_42 : decode cX0_quits 42 = .ok (.invokevirtual 387, 3) := dk_182 1 131 (dk_at dksX0_quits_1 20 rfl rfl)
theorem dX0_quits_45 : decode cX0_quits 45 = .ok (.invokestatic 393, 3) := dk_184 1 137 (dk_at dksX0_quits_2 0 rfl rfl)
theorem dX0_quits_48 : decode cX0_quits 48 = .ok (.istore_n 3, 1) := dk_62 (dk_at dksX0_quits_2 3 rfl rfl)
theorem dX0_quits_49 : decode cX0_quits 49 = .ok (.aload_n 0, 1) := dk_42 (dk_at dksX0_quits_2 4 rfl rfl)
theorem dX0_quits_50 : decode cX0_quits 50 = .ok (.invokevirtual 163, 3) := dk_182 0 163 (dk_at dksX0_quits_2 5 rfl rfl)
theorem dX0_quits_53 : decode cX0_quits 53 = .ok (.iload_n 1, 1) := dk_27 (dk_at dksX0_quits_2 8 rfl rfl)
theorem dX0_quits_54 : decode cX0_quits 54 = .ok (.iload_n 2, 1) := dk_28 (dk_at dksX0_quits_2 9 rfl rfl)
theorem dX0_quits_55 : decode cX0_quits 55 = .ok (.aload_n 0, 1) := dk_42 (dk_at dksX0_quits_2 10 rfl rfl)
theorem dX0_quits_56 : decode cX0_quits 56 = .ok (.invokevirtual 163, 3) := dk_182 0 163 (dk_at dksX0_quits_2 11 rfl rfl)
theorem dX0_quits_59 : decode cX0_quits 59 = .ok (.iload_n 1, 1) := dk_27 (dk_at dksX0_quits_2 14 rfl rfl)
theorem dX0_quits_60 : decode cX0_quits 60 = .ok (.iload_n 2, 1) := dk_28 (dk_at dksX0_quits_2 15 rfl rfl)
theorem dX0_quits_61 : decode cX0_quits 61 = .ok (.invokevirtual 387, 3) := dk_182 1 131 (dk_at dksX0_quits_2 16 rfl rfl)
theorem dX0_quits_64 : decode cX0_quits 64 = .ok (.iload_n 3, 1) := dk_29 (dk_at dksX0_quits_2 19 rfl rfl)
theorem dX0_quits_65 : decode cX0_quits 65 = .ok (.isub, 1) := dk_100 (dk_at dksX0_quits_2 20 rfl rfl)
theorem dX0_quits_66 : decode cX0_quits 66 = .ok (.invokevirtual 396, 3) := dk_182 1 140 (dk_at dksX0_quits_2 21 rfl rfl)
theorem dX0_quits_69 : decode cX0_quits 69 = .ok (.aload_n 0, 1) := dk_42 (dk_at dksX0_quits_3 0 rfl rfl)
theorem dX0_quits_70 : decode cX0_quits 70 = .ok (.invokevirtual 163, 3) := dk_182 0 163 (dk_at dksX0_quits_3 1 rfl rfl)
theorem dX0_quits_73 : decode cX0_quits 73 = .ok (.iload_n 2, 1) := dk_28 (dk_at dksX0_quits_3 4 rfl rfl)
theorem dX0_quits_74 : decode cX0_quits 74 = .ok (.iload_n 1, 1) := dk_27 (dk_at dksX0_quits_3 5 rfl rfl)
theorem dX0_quits_75 : decode cX0_quits 75 = .ok (.aload_n 0, 1) := dk_42 (dk_at dksX0_quits_3 6 rfl rfl)
theorem dX0_quits_76 : decode cX0_quits 76 = .ok (.invokevirtual 163, 3) := dk_182 0 163 (dk_at dksX0_quits_3 7 rfl rfl)
theorem dX0_quits_79 : decode cX0_quits 79 = .ok (.iload_n 2, 1) := dk_28 (dk_at dksX0_quits_3 10 rfl rfl)
theorem dX0_quits_80 : decode cX0_quits 80 = .ok (.iload_n 1, 1) := dk_27 (dk_at dksX0_quits_3 11 rfl rfl)
theorem dX0_quits_81 : decode cX0_quits 81 = .ok (.invokevirtual 387, 3) := dk_182 1 131 (dk_at dksX0_quits_3 12 rfl rfl)
theorem dX0_quits_84 : decode cX0_quits 84 = .ok (.iload_n 3, 1) := dk_29 (dk_at dksX0_quits_3 15 rfl rfl)
theorem dX0_quits_85 : decode cX0_quits 85 = .ok (.isub, 1) := dk_100 (dk_at dksX0_quits_3 16 rfl rfl)
theorem dX0_quits_86 : decode cX0_quits 86 = .ok (.invokevirtual 396, 3) := dk_182 1 140 (dk_at dksX0_quits_3 17 rfl rfl)
theorem dX0_quits_89 : decode cX0_quits 89 = .ok (.iload_n 3, 1) := dk_29 (dk_at dksX0_quits_3 20 rfl rfl)
theorem dX0_quits_90 : decode cX0_quits 90 = .ok (.ireturn, 1) := dk_172 (dk_at dksX0_quits_3 21 rfl rfl)
abbrev cX0_settle : ByteArray := prog_1_method_73_code
def yX0_settle : MethodName := ⟨RX0, "settle", "()I"⟩
def dkwX0_settle_7 : List UInt8 := [167, 0, 9, 42, 180, 0, 63, 27, 46, 100, 172]
abbrev dktX0_settle_7 : List UInt8 := dkwX0_settle_7 ++ []
def dkwX0_settle_6 : List UInt8 := [180, 0, 63, 28, 92, 46, 4, 96, 79, 132, 2, 1, 167, 255, 154, 27, 184, 0, 252, 27, 154, 0, 7, 3]
abbrev dktX0_settle_6 : List UInt8 := dkwX0_settle_6 ++ dktX0_settle_7
def dkwX0_settle_5 : List UInt8 := [4, 21, 4, 120, 2, 130, 126, 46, 184, 1, 145, 79, 132, 4, 1, 167, 255, 191, 29, 154, 0, 13, 42]
abbrev dktX0_settle_5 : List UInt8 := dkwX0_settle_5 ++ dktX0_settle_6
def dkwX0_settle_4 : List UInt8 := [180, 0, 66, 21, 4, 46, 96, 62, 42, 180, 0, 63, 28, 42, 180, 0, 63, 28, 46, 42, 180, 0, 63, 28]
abbrev dktX0_settle_4 : List UInt8 := dkwX0_settle_4 ++ dktX0_settle_5
def dkwX0_settle_3 : List UInt8 := [42, 182, 0, 163, 180, 0, 167, 162, 0, 59, 28, 21, 4, 184, 1, 122, 154, 0, 6, 167, 0, 41, 29, 42]
abbrev dktX0_settle_3 : List UInt8 := dkwX0_settle_3 ++ dktX0_settle_4
def dkwX0_settle_2 : List UInt8 := [167, 255, 223, 4, 61, 28, 27, 163, 0, 103, 3, 62, 42, 180, 0, 63, 28, 3, 79, 3, 54, 4, 21, 4]
abbrev dktX0_settle_2 : List UInt8 := dkwX0_settle_2 ++ dktX0_settle_3
def dkwX0_settle_1 : List UInt8 := [27, 42, 180, 0, 66, 28, 46, 153, 0, 9, 4, 28, 120, 167, 0, 4, 3, 128, 60, 132, 2, 1]
abbrev dktX0_settle_1 : List UInt8 := dkwX0_settle_1 ++ dktX0_settle_2
def dkwX0_settle_0 : List UInt8 := [42, 3, 181, 0, 82, 42, 182, 1, 143, 3, 60, 3, 61, 28, 42, 182, 0, 163, 180, 0, 167, 162, 0, 28]
abbrev dktX0_settle_0 : List UInt8 := dkwX0_settle_0 ++ dktX0_settle_1
theorem dksX0_settle_0 : cX0_settle.data.toList.drop 0 = dktX0_settle_0 := by decide +kernel
theorem dksX0_settle_1 : cX0_settle.data.toList.drop 24 = dktX0_settle_1 := dk_seg dksX0_settle_0 24 rfl rfl
theorem dksX0_settle_2 : cX0_settle.data.toList.drop 46 = dktX0_settle_2 := dk_seg dksX0_settle_1 22 rfl rfl
theorem dksX0_settle_3 : cX0_settle.data.toList.drop 70 = dktX0_settle_3 := dk_seg dksX0_settle_2 24 rfl rfl
theorem dksX0_settle_4 : cX0_settle.data.toList.drop 94 = dktX0_settle_4 := dk_seg dksX0_settle_3 24 rfl rfl
theorem dksX0_settle_5 : cX0_settle.data.toList.drop 118 = dktX0_settle_5 := dk_seg dksX0_settle_4 24 rfl rfl
theorem dksX0_settle_6 : cX0_settle.data.toList.drop 141 = dktX0_settle_6 := dk_seg dksX0_settle_5 23 rfl rfl
theorem dksX0_settle_7 : cX0_settle.data.toList.drop 165 = dktX0_settle_7 := dk_seg dksX0_settle_6 24 rfl rfl
theorem dX0_settle_0 : decode cX0_settle 0 = .ok (.aload_n 0, 1) := dk_42 (dk_at dksX0_settle_0 0 rfl rfl)
theorem dX0_settle_1 : decode cX0_settle 1 = .ok (.iconst 0, 1) := dk_3 (dk_at dksX0_settle_0 1 rfl rfl)
theorem dX0_settle_2 : decode cX0_settle 2 = .ok (.putfield 82, 3) := dk_181 0 82 (dk_at dksX0_settle_0 2 rfl rfl)
theorem dX0_settle_5 : decode cX0_settle 5 = .ok (.aload_n 0, 1) := dk_42 (dk_at dksX0_settle_0 5 rfl rfl)
theorem dX0_settle_6 : decode cX0_settle 6 = .ok (.invokevirtual 399, 3) := dk_182 1 143 (dk_at dksX0_settle_0 6 rfl rfl)
theorem dX0_settle_9 : decode cX0_settle 9 = .ok (.iconst 0, 1) := dk_3 (dk_at dksX0_settle_0 9 rfl rfl)
theorem dX0_settle_10 : decode cX0_settle 10 = .ok (.istore_n 1, 1) := dk_60 (dk_at dksX0_settle_0 10 rfl rfl)
theorem dX0_settle_11 : decode cX0_settle 11 = .ok (.iconst 0, 1) := dk_3 (dk_at dksX0_settle_0 11 rfl rfl)
theorem dX0_settle_12 : decode cX0_settle 12 = .ok (.istore_n 2, 1) := dk_61 (dk_at dksX0_settle_0 12 rfl rfl)
theorem dX0_settle_13 : decode cX0_settle 13 = .ok (.iload_n 2, 1) := dk_28 (dk_at dksX0_settle_0 13 rfl rfl)
theorem dX0_settle_14 : decode cX0_settle 14 = .ok (.aload_n 0, 1) := dk_42 (dk_at dksX0_settle_0 14 rfl rfl)
theorem dX0_settle_15 : decode cX0_settle 15 = .ok (.invokevirtual 163, 3) := dk_182 0 163 (dk_at dksX0_settle_0 15 rfl rfl)
theorem dX0_settle_18 : decode cX0_settle 18 = .ok (.getfield 167, 3) := dk_180 0 167 (dk_at dksX0_settle_0 18 rfl rfl)
theorem dX0_settle_21 : decode cX0_settle 21 = .ok (.if_icmp .ge 28, 3) := dk_162 0 28 (dk_at dksX0_settle_0 21 rfl rfl)
theorem dX0_settle_24 : decode cX0_settle 24 = .ok (.iload_n 1, 1) := dk_27 (dk_at dksX0_settle_1 0 rfl rfl)
theorem dX0_settle_25 : decode cX0_settle 25 = .ok (.aload_n 0, 1) := dk_42 (dk_at dksX0_settle_1 1 rfl rfl)
theorem dX0_settle_26 : decode cX0_settle 26 = .ok (.getfield 66, 3) := dk_180 0 66 (dk_at dksX0_settle_1 2 rfl rfl)
theorem dX0_settle_29 : decode cX0_settle 29 = .ok (.iload_n 2, 1) := dk_28 (dk_at dksX0_settle_1 5 rfl rfl)
theorem dX0_settle_30 : decode cX0_settle 30 = .ok (.iaload, 1) := dk_46 (dk_at dksX0_settle_1 6 rfl rfl)
theorem dX0_settle_31 : decode cX0_settle 31 = .ok (.ifCond .eq 9, 3) := dk_153 0 9 (dk_at dksX0_settle_1 7 rfl rfl)
theorem dX0_settle_34 : decode cX0_settle 34 = .ok (.iconst 1, 1) := dk_4 (dk_at dksX0_settle_1 10 rfl rfl)
theorem dX0_settle_35 : decode cX0_settle 35 = .ok (.iload_n 2, 1) := dk_28 (dk_at dksX0_settle_1 11 rfl rfl)
theorem dX0_settle_36 : decode cX0_settle 36 = .ok (.ishl, 1) := dk_120 (dk_at dksX0_settle_1 12 rfl rfl)
theorem dX0_settle_37 : decode cX0_settle 37 = .ok (.goto 4, 3) := dk_167 0 4 (dk_at dksX0_settle_1 13 rfl rfl)
theorem dX0_settle_40 : decode cX0_settle 40 = .ok (.iconst 0, 1) := dk_3 (dk_at dksX0_settle_1 16 rfl rfl)
theorem dX0_settle_41 : decode cX0_settle 41 = .ok (.ior, 1) := dk_128 (dk_at dksX0_settle_1 17 rfl rfl)
theorem dX0_settle_42 : decode cX0_settle 42 = .ok (.istore_n 1, 1) := dk_60 (dk_at dksX0_settle_1 18 rfl rfl)
theorem dX0_settle_43 : decode cX0_settle 43 = .ok (.iinc 2 1, 3) := dk_132 2 1 (dk_at dksX0_settle_1 19 rfl rfl)
theorem dX0_settle_46 : decode cX0_settle 46 = .ok (.goto (-33), 3) := dk_167 255 223 (dk_at dksX0_settle_2 0 rfl rfl)
theorem dX0_settle_49 : decode cX0_settle 49 = .ok (.iconst 1, 1) := dk_4 (dk_at dksX0_settle_2 3 rfl rfl)
theorem dX0_settle_50 : decode cX0_settle 50 = .ok (.istore_n 2, 1) := dk_61 (dk_at dksX0_settle_2 4 rfl rfl)
theorem dX0_settle_51 : decode cX0_settle 51 = .ok (.iload_n 2, 1) := dk_28 (dk_at dksX0_settle_2 5 rfl rfl)
theorem dX0_settle_52 : decode cX0_settle 52 = .ok (.iload_n 1, 1) := dk_27 (dk_at dksX0_settle_2 6 rfl rfl)
theorem dX0_settle_53 : decode cX0_settle 53 = .ok (.if_icmp .gt 103, 3) := dk_163 0 103 (dk_at dksX0_settle_2 7 rfl rfl)
theorem dX0_settle_56 : decode cX0_settle 56 = .ok (.iconst 0, 1) := dk_3 (dk_at dksX0_settle_2 10 rfl rfl)
theorem dX0_settle_57 : decode cX0_settle 57 = .ok (.istore_n 3, 1) := dk_62 (dk_at dksX0_settle_2 11 rfl rfl)
theorem dX0_settle_58 : decode cX0_settle 58 = .ok (.aload_n 0, 1) := dk_42 (dk_at dksX0_settle_2 12 rfl rfl)
theorem dX0_settle_59 : decode cX0_settle 59 = .ok (.getfield 63, 3) := dk_180 0 63 (dk_at dksX0_settle_2 13 rfl rfl)
theorem dX0_settle_62 : decode cX0_settle 62 = .ok (.iload_n 2, 1) := dk_28 (dk_at dksX0_settle_2 16 rfl rfl)
theorem dX0_settle_63 : decode cX0_settle 63 = .ok (.iconst 0, 1) := dk_3 (dk_at dksX0_settle_2 17 rfl rfl)
theorem dX0_settle_64 : decode cX0_settle 64 = .ok (.iastore, 1) := dk_79 (dk_at dksX0_settle_2 18 rfl rfl)
theorem dX0_settle_65 : decode cX0_settle 65 = .ok (.iconst 0, 1) := dk_3 (dk_at dksX0_settle_2 19 rfl rfl)
theorem dX0_settle_66 : decode cX0_settle 66 = .ok (.istore 4, 2) := dk_54 4 (dk_at dksX0_settle_2 20 rfl rfl)
theorem dX0_settle_68 : decode cX0_settle 68 = .ok (.iload 4, 2) := dk_21 4 (dk_at dksX0_settle_2 22 rfl rfl)
theorem dX0_settle_70 : decode cX0_settle 70 = .ok (.aload_n 0, 1) := dk_42 (dk_at dksX0_settle_3 0 rfl rfl)
theorem dX0_settle_71 : decode cX0_settle 71 = .ok (.invokevirtual 163, 3) := dk_182 0 163 (dk_at dksX0_settle_3 1 rfl rfl)
theorem dX0_settle_74 : decode cX0_settle 74 = .ok (.getfield 167, 3) := dk_180 0 167 (dk_at dksX0_settle_3 4 rfl rfl)
theorem dX0_settle_77 : decode cX0_settle 77 = .ok (.if_icmp .ge 59, 3) := dk_162 0 59 (dk_at dksX0_settle_3 7 rfl rfl)
theorem dX0_settle_80 : decode cX0_settle 80 = .ok (.iload_n 2, 1) := dk_28 (dk_at dksX0_settle_3 10 rfl rfl)
theorem dX0_settle_81 : decode cX0_settle 81 = .ok (.iload 4, 2) := dk_21 4 (dk_at dksX0_settle_3 11 rfl rfl)
theorem dX0_settle_83 : decode cX0_settle 83 = .ok (.invokestatic 378, 3) := dk_184 1 122 (dk_at dksX0_settle_3 13 rfl rfl)
theorem dX0_settle_86 : decode cX0_settle 86 = .ok (.ifCond .ne 6, 3) := dk_154 0 6 (dk_at dksX0_settle_3 16 rfl rfl)
theorem dX0_settle_89 : decode cX0_settle 89 = .ok (.goto 41, 3) := dk_167 0 41 (dk_at dksX0_settle_3 19 rfl rfl)
theorem dX0_settle_92 : decode cX0_settle 92 = .ok (.iload_n 3, 1) := dk_29 (dk_at dksX0_settle_3 22 rfl rfl)
theorem dX0_settle_93 : decode cX0_settle 93 = .ok (.aload_n 0, 1) := dk_42 (dk_at dksX0_settle_3 23 rfl rfl)
theorem dX0_settle_94 : decode cX0_settle 94 = .ok (.getfield 66, 3) := dk_180 0 66 (dk_at dksX0_settle_4 0 rfl rfl)
theorem dX0_settle_97 : decode cX0_settle 97 = .ok (.iload 4, 2) := dk_21 4 (dk_at dksX0_settle_4 3 rfl rfl)
theorem dX0_settle_99 : decode cX0_settle 99 = .ok (.iaload, 1) := dk_46 (dk_at dksX0_settle_4 5 rfl rfl)
theorem dX0_settle_100 : decode cX0_settle 100 = .ok (.iadd, 1) := dk_96 (dk_at dksX0_settle_4 6 rfl rfl)
theorem dX0_settle_101 : decode cX0_settle 101 = .ok (.istore_n 3, 1) := dk_62 (dk_at dksX0_settle_4 7 rfl rfl)
theorem dX0_settle_102 : decode cX0_settle 102 = .ok (.aload_n 0, 1) := dk_42 (dk_at dksX0_settle_4 8 rfl rfl)
theorem dX0_settle_103 : decode cX0_settle 103 = .ok (.getfield 63, 3) := dk_180 0 63 (dk_at dksX0_settle_4 9 rfl rfl)
theorem dX0_settle_106 : decode cX0_settle 106 = .ok (.iload_n 2, 1) := dk_28 (dk_at dksX0_settle_4 12 rfl rfl)
theorem dX0_settle_107 : decode cX0_settle 107 = .ok (.aload_n 0, 1) := dk_42 (dk_at dksX0_settle_4 13 rfl rfl)
theorem dX0_settle_108 : decode cX0_settle 108 = .ok (.getfield 63, 3) := dk_180 0 63 (dk_at dksX0_settle_4 14 rfl rfl)
theorem dX0_settle_111 : decode cX0_settle 111 = .ok (.iload_n 2, 1) := dk_28 (dk_at dksX0_settle_4 17 rfl rfl)
theorem dX0_settle_112 : decode cX0_settle 112 = .ok (.iaload, 1) := dk_46 (dk_at dksX0_settle_4 18 rfl rfl)
theorem dX0_settle_113 : decode cX0_settle 113 = .ok (.aload_n 0, 1) := dk_42 (dk_at dksX0_settle_4 19 rfl rfl)
theorem dX0_settle_114 : decode cX0_settle 114 = .ok (.getfield 63, 3) := dk_180 0 63 (dk_at dksX0_settle_4 20 rfl rfl)
theorem dX0_settle_117 : decode cX0_settle 117 = .ok (.iload_n 2, 1) := dk_28 (dk_at dksX0_settle_4 23 rfl rfl)
theorem dX0_settle_118 : decode cX0_settle 118 = .ok (.iconst 1, 1) := dk_4 (dk_at dksX0_settle_5 0 rfl rfl)
theorem dX0_settle_119 : decode cX0_settle 119 = .ok (.iload 4, 2) := dk_21 4 (dk_at dksX0_settle_5 1 rfl rfl)
theorem dX0_settle_121 : decode cX0_settle 121 = .ok (.ishl, 1) := dk_120 (dk_at dksX0_settle_5 3 rfl rfl)
theorem dX0_settle_122 : decode cX0_settle 122 = .ok (.iconst (-1), 1) := dk_2 (dk_at dksX0_settle_5 4 rfl rfl)
theorem dX0_settle_123 : decode cX0_settle 123 = .ok (.ixor, 1) := dk_130 (dk_at dksX0_settle_5 5 rfl rfl)
theorem dX0_settle_124 : decode cX0_settle 124 = .ok (.iand, 1) := dk_126 (dk_at dksX0_settle_5 6 rfl rfl)
theorem dX0_settle_125 : decode cX0_settle 125 = .ok (.iaload, 1) := dk_46 (dk_at dksX0_settle_5 7 rfl rfl)
theorem dX0_settle_126 : decode cX0_settle 126 = .ok (.invokestatic 401, 3) := dk_184 1 145 (dk_at dksX0_settle_5 8 rfl rfl)
theorem dX0_settle_129 : decode cX0_settle 129 = .ok (.iastore, 1) := dk_79 (dk_at dksX0_settle_5 11 rfl rfl)
theorem dX0_settle_130 : decode cX0_settle 130 = .ok (.iinc 4 1, 3) := dk_132 4 1 (dk_at dksX0_settle_5 12 rfl rfl)
theorem dX0_settle_133 : decode cX0_settle 133 = .ok (.goto (-65), 3) := dk_167 255 191 (dk_at dksX0_settle_5 15 rfl rfl)
theorem dX0_settle_136 : decode cX0_settle 136 = .ok (.iload_n 3, 1) := dk_29 (dk_at dksX0_settle_5 18 rfl rfl)
theorem dX0_settle_137 : decode cX0_settle 137 = .ok (.ifCond .ne 13, 3) := dk_154 0 13 (dk_at dksX0_settle_5 19 rfl rfl)
theorem dX0_settle_140 : decode cX0_settle 140 = .ok (.aload_n 0, 1) := dk_42 (dk_at dksX0_settle_5 22 rfl rfl)
theorem dX0_settle_141 : decode cX0_settle 141 = .ok (.getfield 63, 3) := dk_180 0 63 (dk_at dksX0_settle_6 0 rfl rfl)
theorem dX0_settle_144 : decode cX0_settle 144 = .ok (.iload_n 2, 1) := dk_28 (dk_at dksX0_settle_6 3 rfl rfl)
theorem dX0_settle_145 : decode cX0_settle 145 = .ok (.dup2, 1) := dk_92 (dk_at dksX0_settle_6 4 rfl rfl)
theorem dX0_settle_146 : decode cX0_settle 146 = .ok (.iaload, 1) := dk_46 (dk_at dksX0_settle_6 5 rfl rfl)
theorem dX0_settle_147 : decode cX0_settle 147 = .ok (.iconst 1, 1) := dk_4 (dk_at dksX0_settle_6 6 rfl rfl)
theorem dX0_settle_148 : decode cX0_settle 148 = .ok (.iadd, 1) := dk_96 (dk_at dksX0_settle_6 7 rfl rfl)
theorem dX0_settle_149 : decode cX0_settle 149 = .ok (.iastore, 1) := dk_79 (dk_at dksX0_settle_6 8 rfl rfl)
theorem dX0_settle_150 : decode cX0_settle 150 = .ok (.iinc 2 1, 3) := dk_132 2 1 (dk_at dksX0_settle_6 9 rfl rfl)
theorem dX0_settle_153 : decode cX0_settle 153 = .ok (.goto (-102), 3) := dk_167 255 154 (dk_at dksX0_settle_6 12 rfl rfl)
theorem dX0_settle_156 : decode cX0_settle 156 = .ok (.iload_n 1, 1) := dk_27 (dk_at dksX0_settle_6 15 rfl rfl)
theorem dX0_settle_157 : decode cX0_settle 157 = .ok (.invokestatic 252, 3) := dk_184 0 252 (dk_at dksX0_settle_6 16 rfl rfl)
theorem dX0_settle_160 : decode cX0_settle 160 = .ok (.iload_n 1, 1) := dk_27 (dk_at dksX0_settle_6 19 rfl rfl)
theorem dX0_settle_161 : decode cX0_settle 161 = .ok (.ifCond .ne 7, 3) := dk_154 0 7 (dk_at dksX0_settle_6 20 rfl rfl)
theorem dX0_settle_164 : decode cX0_settle 164 = .ok (.iconst 0, 1) := dk_3 (dk_at dksX0_settle_6 23 rfl rfl)
theorem dX0_settle_165 : decode cX0_settle 165 = .ok (.goto 9, 3) := dk_167 0 9 (dk_at dksX0_settle_7 0 rfl rfl)
theorem dX0_settle_168 : decode cX0_settle 168 = .ok (.aload_n 0, 1) := dk_42 (dk_at dksX0_settle_7 3 rfl rfl)
theorem dX0_settle_169 : decode cX0_settle 169 = .ok (.getfield 63, 3) := dk_180 0 63 (dk_at dksX0_settle_7 4 rfl rfl)
theorem dX0_settle_172 : decode cX0_settle 172 = .ok (.iload_n 1, 1) := dk_27 (dk_at dksX0_settle_7 7 rfl rfl)
theorem dX0_settle_173 : decode cX0_settle 173 = .ok (.iaload, 1) := dk_46 (dk_at dksX0_settle_7 8 rfl rfl)
theorem dX0_settle_174 : decode cX0_settle 174 = .ok (.isub, 1) := dk_100 (dk_at dksX0_settle_7 9 rfl rfl)
theorem dX0_settle_175 : decode cX0_settle 175 = .ok (.ireturn, 1) := dk_172 (dk_at dksX0_settle_7 10 rfl rfl)
abbrev cX0_balances : ByteArray := prog_1_method_72_code
def yX0_balances : MethodName := ⟨RX0, "balances", "()V"⟩
def dkwX0_balances_1 : List UInt8 := [182, 1, 125, 79, 132, 1, 1, 167, 255, 228, 177]
abbrev dktX0_balances_1 : List UInt8 := dkwX0_balances_1 ++ []
def dkwX0_balances_0 : List UInt8 := [3, 60, 27, 42, 182, 0, 163, 180, 0, 167, 162, 0, 23, 42, 180, 0, 66, 27, 42, 182, 0, 163, 27]
abbrev dktX0_balances_0 : List UInt8 := dkwX0_balances_0 ++ dktX0_balances_1
theorem dksX0_balances_0 : cX0_balances.data.toList.drop 0 = dktX0_balances_0 := by decide +kernel
theorem dksX0_balances_1 : cX0_balances.data.toList.drop 23 = dktX0_balances_1 := dk_seg dksX0_balances_0 23 rfl rfl
theorem dX0_balances_0 : decode cX0_balances 0 = .ok (.iconst 0, 1) := dk_3 (dk_at dksX0_balances_0 0 rfl rfl)
theorem dX0_balances_1 : decode cX0_balances 1 = .ok (.istore_n 1, 1) := dk_60 (dk_at dksX0_balances_0 1 rfl rfl)
theorem dX0_balances_2 : decode cX0_balances 2 = .ok (.iload_n 1, 1) := dk_27 (dk_at dksX0_balances_0 2 rfl rfl)
theorem dX0_balances_3 : decode cX0_balances 3 = .ok (.aload_n 0, 1) := dk_42 (dk_at dksX0_balances_0 3 rfl rfl)
theorem dX0_balances_4 : decode cX0_balances 4 = .ok (.invokevirtual 163, 3) := dk_182 0 163 (dk_at dksX0_balances_0 4 rfl rfl)
theorem dX0_balances_7 : decode cX0_balances 7 = .ok (.getfield 167, 3) := dk_180 0 167 (dk_at dksX0_balances_0 7 rfl rfl)
theorem dX0_balances_10 : decode cX0_balances 10 = .ok (.if_icmp .ge 23, 3) := dk_162 0 23 (dk_at dksX0_balances_0 10 rfl rfl)
theorem dX0_balances_13 : decode cX0_balances 13 = .ok (.aload_n 0, 1) := dk_42 (dk_at dksX0_balances_0 13 rfl rfl)
theorem dX0_balances_14 : decode cX0_balances 14 = .ok (.getfield 66, 3) := dk_180 0 66 (dk_at dksX0_balances_0 14 rfl rfl)
theorem dX0_balances_17 : decode cX0_balances 17 = .ok (.iload_n 1, 1) := dk_27 (dk_at dksX0_balances_0 17 rfl rfl)
theorem dX0_balances_18 : decode cX0_balances 18 = .ok (.aload_n 0, 1) := dk_42 (dk_at dksX0_balances_0 18 rfl rfl)
theorem dX0_balances_19 : decode cX0_balances 19 = .ok (.invokevirtual 163, 3) := dk_182 0 163 (dk_at dksX0_balances_0 19 rfl rfl)
theorem dX0_balances_22 : decode cX0_balances 22 = .ok (.iload_n 1, 1) := dk_27 (dk_at dksX0_balances_0 22 rfl rfl)
theorem dX0_balances_23 : decode cX0_balances 23 = .ok (.invokevirtual 381, 3) := dk_182 1 125 (dk_at dksX0_balances_1 0 rfl rfl)
theorem dX0_balances_26 : decode cX0_balances 26 = .ok (.iastore, 1) := dk_79 (dk_at dksX0_balances_1 3 rfl rfl)
theorem dX0_balances_27 : decode cX0_balances 27 = .ok (.iinc 1 1, 3) := dk_132 1 1 (dk_at dksX0_balances_1 4 rfl rfl)
theorem dX0_balances_30 : decode cX0_balances 30 = .ok (.goto (-28), 3) := dk_167 255 228 (dk_at dksX0_balances_1 7 rfl rfl)
theorem dX0_balances_33 : decode cX0_balances 33 = .ok (.return_, 1) := dk_177 (dk_at dksX0_balances_1 10 rfl rfl)
abbrev cX0_ties : ByteArray := prog_1_method_75_code
def yX0_ties : MethodName := ⟨RX0, "ties", "()I"⟩
def dkwX0_ties_0 : List UInt8 := [42, 3, 181, 0, 82, 42, 182, 1, 148, 172]
abbrev dktX0_ties_0 : List UInt8 := dkwX0_ties_0 ++ []
theorem dksX0_ties_0 : cX0_ties.data.toList.drop 0 = dktX0_ties_0 := by decide +kernel
theorem dX0_ties_0 : decode cX0_ties 0 = .ok (.aload_n 0, 1) := dk_42 (dk_at dksX0_ties_0 0 rfl rfl)
theorem dX0_ties_1 : decode cX0_ties 1 = .ok (.iconst 0, 1) := dk_3 (dk_at dksX0_ties_0 1 rfl rfl)
theorem dX0_ties_2 : decode cX0_ties 2 = .ok (.putfield 82, 3) := dk_181 0 82 (dk_at dksX0_ties_0 2 rfl rfl)
theorem dX0_ties_5 : decode cX0_ties 5 = .ok (.aload_n 0, 1) := dk_42 (dk_at dksX0_ties_0 5 rfl rfl)
theorem dX0_ties_6 : decode cX0_ties 6 = .ok (.invokevirtual 404, 3) := dk_182 1 148 (dk_at dksX0_ties_0 6 rfl rfl)
theorem dX0_ties_9 : decode cX0_ties 9 = .ok (.ireturn, 1) := dk_172 (dk_at dksX0_ties_0 9 rfl rfl)
abbrev cX0_tiesOf : ByteArray := prog_1_method_74_code
def yX0_tiesOf : MethodName := ⟨RX0, "tiesOf", "()I"⟩
def dkwX0_tiesOf_2 : List UInt8 := [167, 0, 4, 3, 96, 60, 132, 3, 1, 167, 255, 216, 132, 2, 1, 167, 255, 197, 27, 172]
abbrev dktX0_tiesOf_2 : List UInt8 := dkwX0_tiesOf_2 ++ []
def dkwX0_tiesOf_1 : List UInt8 := [182, 0, 163, 28, 29, 182, 1, 131, 157, 0, 15, 42, 182, 0, 163, 29, 28, 182, 1, 131, 158, 0, 7, 4]
abbrev dktX0_tiesOf_1 : List UInt8 := dkwX0_tiesOf_1 ++ dktX0_tiesOf_2
def dkwX0_tiesOf_0 : List UInt8 := [3, 60, 3, 61, 28, 42, 182, 0, 163, 180, 0, 167, 162, 0, 54, 3, 62, 29, 28, 162, 0, 41, 27, 42]
abbrev dktX0_tiesOf_0 : List UInt8 := dkwX0_tiesOf_0 ++ dktX0_tiesOf_1
theorem dksX0_tiesOf_0 : cX0_tiesOf.data.toList.drop 0 = dktX0_tiesOf_0 := by decide +kernel
theorem dksX0_tiesOf_1 : cX0_tiesOf.data.toList.drop 24 = dktX0_tiesOf_1 := dk_seg dksX0_tiesOf_0 24 rfl rfl
theorem dksX0_tiesOf_2 : cX0_tiesOf.data.toList.drop 48 = dktX0_tiesOf_2 := dk_seg dksX0_tiesOf_1 24 rfl rfl
theorem dX0_tiesOf_0 : decode cX0_tiesOf 0 = .ok (.iconst 0, 1) := dk_3 (dk_at dksX0_tiesOf_0 0 rfl rfl)
theorem dX0_tiesOf_1 : decode cX0_tiesOf 1 = .ok (.istore_n 1, 1) := dk_60 (dk_at dksX0_tiesOf_0 1 rfl rfl)
theorem dX0_tiesOf_2 : decode cX0_tiesOf 2 = .ok (.iconst 0, 1) := dk_3 (dk_at dksX0_tiesOf_0 2 rfl rfl)
theorem dX0_tiesOf_3 : decode cX0_tiesOf 3 = .ok (.istore_n 2, 1) := dk_61 (dk_at dksX0_tiesOf_0 3 rfl rfl)
theorem dX0_tiesOf_4 : decode cX0_tiesOf 4 = .ok (.iload_n 2, 1) := dk_28 (dk_at dksX0_tiesOf_0 4 rfl rfl)
theorem dX0_tiesOf_5 : decode cX0_tiesOf 5 = .ok (.aload_n 0, 1) := dk_42 (dk_at dksX0_tiesOf_0 5 rfl rfl)
theorem dX0_tiesOf_6 : decode cX0_tiesOf 6 = .ok (.invokevirtual 163, 3) := dk_182 0 163 (dk_at dksX0_tiesOf_0 6 rfl rfl)
theorem dX0_tiesOf_9 : decode cX0_tiesOf 9 = .ok (.getfield 167, 3) := dk_180 0 167 (dk_at dksX0_tiesOf_0 9 rfl rfl)
theorem dX0_tiesOf_12 : decode cX0_tiesOf 12 = .ok (.if_icmp .ge 54, 3) := dk_162 0 54 (dk_at dksX0_tiesOf_0 12 rfl rfl)
theorem dX0_tiesOf_15 : decode cX0_tiesOf 15 = .ok (.iconst 0, 1) := dk_3 (dk_at dksX0_tiesOf_0 15 rfl rfl)
theorem dX0_tiesOf_16 : decode cX0_tiesOf 16 = .ok (.istore_n 3, 1) := dk_62 (dk_at dksX0_tiesOf_0 16 rfl rfl)
theorem dX0_tiesOf_17 : decode cX0_tiesOf 17 = .ok (.iload_n 3, 1) := dk_29 (dk_at dksX0_tiesOf_0 17 rfl rfl)
theorem dX0_tiesOf_18 : decode cX0_tiesOf 18 = .ok (.iload_n 2, 1) := dk_28 (dk_at dksX0_tiesOf_0 18 rfl rfl)
theorem dX0_tiesOf_19 : decode cX0_tiesOf 19 = .ok (.if_icmp .ge 41, 3) := dk_162 0 41 (dk_at dksX0_tiesOf_0 19 rfl rfl)
theorem dX0_tiesOf_22 : decode cX0_tiesOf 22 = .ok (.iload_n 1, 1) := dk_27 (dk_at dksX0_tiesOf_0 22 rfl rfl)
theorem dX0_tiesOf_23 : decode cX0_tiesOf 23 = .ok (.aload_n 0, 1) := dk_42 (dk_at dksX0_tiesOf_0 23 rfl rfl)
theorem dX0_tiesOf_24 : decode cX0_tiesOf 24 = .ok (.invokevirtual 163, 3) := dk_182 0 163 (dk_at dksX0_tiesOf_1 0 rfl rfl)
theorem dX0_tiesOf_27 : decode cX0_tiesOf 27 = .ok (.iload_n 2, 1) := dk_28 (dk_at dksX0_tiesOf_1 3 rfl rfl)
theorem dX0_tiesOf_28 : decode cX0_tiesOf 28 = .ok (.iload_n 3, 1) := dk_29 (dk_at dksX0_tiesOf_1 4 rfl rfl)
theorem dX0_tiesOf_29 : decode cX0_tiesOf 29 = .ok (.invokevirtual 387, 3) := dk_182 1 131 (dk_at dksX0_tiesOf_1 5 rfl rfl)
theorem dX0_tiesOf_32 : decode cX0_tiesOf 32 = .ok (.ifCond .gt 15, 3) := dk_157 0 15 (dk_at dksX0_tiesOf_1 8 rfl rfl)
theorem dX0_tiesOf_35 : decode cX0_tiesOf 35 = .ok (.aload_n 0, 1) := dk_42 (dk_at dksX0_tiesOf_1 11 rfl rfl)
theorem dX0_tiesOf_36 : decode cX0_tiesOf 36 = .ok (.invokevirtual 163, 3) := dk_182 0 163 (dk_at dksX0_tiesOf_1 12 rfl rfl)
theorem dX0_tiesOf_39 : decode cX0_tiesOf 39 = .ok (.iload_n 3, 1) := dk_29 (dk_at dksX0_tiesOf_1 15 rfl rfl)
theorem dX0_tiesOf_40 : decode cX0_tiesOf 40 = .ok (.iload_n 2, 1) := dk_28 (dk_at dksX0_tiesOf_1 16 rfl rfl)
theorem dX0_tiesOf_41 : decode cX0_tiesOf 41 = .ok (.invokevirtual 387, 3) := dk_182 1 131 (dk_at dksX0_tiesOf_1 17 rfl rfl)
theorem dX0_tiesOf_44 : decode cX0_tiesOf 44 = .ok (.ifCond .le 7, 3) := dk_158 0 7 (dk_at dksX0_tiesOf_1 20 rfl rfl)
theorem dX0_tiesOf_47 : decode cX0_tiesOf 47 = .ok (.iconst 1, 1) := dk_4 (dk_at dksX0_tiesOf_1 23 rfl rfl)
theorem dX0_tiesOf_48 : decode cX0_tiesOf 48 = .ok (.goto 4, 3) := dk_167 0 4 (dk_at dksX0_tiesOf_2 0 rfl rfl)
theorem dX0_tiesOf_51 : decode cX0_tiesOf 51 = .ok (.iconst 0, 1) := dk_3 (dk_at dksX0_tiesOf_2 3 rfl rfl)
theorem dX0_tiesOf_52 : decode cX0_tiesOf 52 = .ok (.iadd, 1) := dk_96 (dk_at dksX0_tiesOf_2 4 rfl rfl)
theorem dX0_tiesOf_53 : decode cX0_tiesOf 53 = .ok (.istore_n 1, 1) := dk_60 (dk_at dksX0_tiesOf_2 5 rfl rfl)
theorem dX0_tiesOf_54 : decode cX0_tiesOf 54 = .ok (.iinc 3 1, 3) := dk_132 3 1 (dk_at dksX0_tiesOf_2 6 rfl rfl)
theorem dX0_tiesOf_57 : decode cX0_tiesOf 57 = .ok (.goto (-40), 3) := dk_167 255 216 (dk_at dksX0_tiesOf_2 9 rfl rfl)
theorem dX0_tiesOf_60 : decode cX0_tiesOf 60 = .ok (.iinc 2 1, 3) := dk_132 2 1 (dk_at dksX0_tiesOf_2 12 rfl rfl)
theorem dX0_tiesOf_63 : decode cX0_tiesOf 63 = .ok (.goto (-59), 3) := dk_167 255 197 (dk_at dksX0_tiesOf_2 15 rfl rfl)
theorem dX0_tiesOf_66 : decode cX0_tiesOf 66 = .ok (.iload_n 1, 1) := dk_27 (dk_at dksX0_tiesOf_2 18 rfl rfl)
theorem dX0_tiesOf_67 : decode cX0_tiesOf 67 = .ok (.ireturn, 1) := dk_172 (dk_at dksX0_tiesOf_2 19 rfl rfl)
abbrev cX0_extreme : ByteArray := prog_1_method_77_code
def yX0_extreme : MethodName := ⟨RX0, "extreme", "(I)I"⟩
def dkwX0_extreme_1 : List UInt8 := [158, 0, 5, 2, 172, 42, 182, 1, 143, 42, 42, 27, 182, 1, 151, 182, 1, 40, 172]
abbrev dktX0_extreme_1 : List UInt8 := dkwX0_extreme_1 ++ []
def dkwX0_extreme_0 : List UInt8 := [42, 27, 133, 9, 10, 184, 0, 170, 153, 0, 7, 3, 167, 0, 4, 4, 181, 0, 82, 42, 180, 0, 82]
abbrev dktX0_extreme_0 : List UInt8 := dkwX0_extreme_0 ++ dktX0_extreme_1
theorem dksX0_extreme_0 : cX0_extreme.data.toList.drop 0 = dktX0_extreme_0 := by decide +kernel
theorem dksX0_extreme_1 : cX0_extreme.data.toList.drop 23 = dktX0_extreme_1 := dk_seg dksX0_extreme_0 23 rfl rfl
theorem dX0_extreme_0 : decode cX0_extreme 0 = .ok (.aload_n 0, 1) := dk_42 (dk_at dksX0_extreme_0 0 rfl rfl)
theorem dX0_extreme_1 : decode cX0_extreme 1 = .ok (.iload_n 1, 1) := dk_27 (dk_at dksX0_extreme_0 1 rfl rfl)
theorem dX0_extreme_2 : decode cX0_extreme 2 = .ok (.i2l, 1) := dk_133 (dk_at dksX0_extreme_0 2 rfl rfl)
theorem dX0_extreme_3 : decode cX0_extreme 3 = .ok (.lconst 0, 1) := dk_9 (dk_at dksX0_extreme_0 3 rfl rfl)
theorem dX0_extreme_4 : decode cX0_extreme 4 = .ok (.lconst 1, 1) := dk_10 (dk_at dksX0_extreme_0 4 rfl rfl)
theorem dX0_extreme_5 : decode cX0_extreme 5 = .ok (.invokestatic 170, 3) := dk_184 0 170 (dk_at dksX0_extreme_0 5 rfl rfl)
theorem dX0_extreme_8 : decode cX0_extreme 8 = .ok (.ifCond .eq 7, 3) := dk_153 0 7 (dk_at dksX0_extreme_0 8 rfl rfl)
theorem dX0_extreme_11 : decode cX0_extreme 11 = .ok (.iconst 0, 1) := dk_3 (dk_at dksX0_extreme_0 11 rfl rfl)
theorem dX0_extreme_12 : decode cX0_extreme 12 = .ok (.goto 4, 3) := dk_167 0 4 (dk_at dksX0_extreme_0 12 rfl rfl)
theorem dX0_extreme_15 : decode cX0_extreme 15 = .ok (.iconst 1, 1) := dk_4 (dk_at dksX0_extreme_0 15 rfl rfl)
theorem dX0_extreme_16 : decode cX0_extreme 16 = .ok (.putfield 82, 3) := dk_181 0 82 (dk_at dksX0_extreme_0 16 rfl rfl)
theorem dX0_extreme_19 : decode cX0_extreme 19 = .ok (.aload_n 0, 1) := dk_42 (dk_at dksX0_extreme_0 19 rfl rfl)
theorem dX0_extreme_20 : decode cX0_extreme 20 = .ok (.getfield 82, 3) := dk_180 0 82 (dk_at dksX0_extreme_0 20 rfl rfl)
theorem dX0_extreme_23 : decode cX0_extreme 23 = .ok (.ifCond .le 5, 3) := dk_158 0 5 (dk_at dksX0_extreme_1 0 rfl rfl)
theorem dX0_extreme_26 : decode cX0_extreme 26 = .ok (.iconst (-1), 1) := dk_2 (dk_at dksX0_extreme_1 3 rfl rfl)
theorem dX0_extreme_27 : decode cX0_extreme 27 = .ok (.ireturn, 1) := dk_172 (dk_at dksX0_extreme_1 4 rfl rfl)
theorem dX0_extreme_28 : decode cX0_extreme 28 = .ok (.aload_n 0, 1) := dk_42 (dk_at dksX0_extreme_1 5 rfl rfl)
theorem dX0_extreme_29 : decode cX0_extreme 29 = .ok (.invokevirtual 399, 3) := dk_182 1 143 (dk_at dksX0_extreme_1 6 rfl rfl)
theorem dX0_extreme_32 : decode cX0_extreme 32 = .ok (.aload_n 0, 1) := dk_42 (dk_at dksX0_extreme_1 9 rfl rfl)
theorem dX0_extreme_33 : decode cX0_extreme 33 = .ok (.aload_n 0, 1) := dk_42 (dk_at dksX0_extreme_1 10 rfl rfl)
theorem dX0_extreme_34 : decode cX0_extreme 34 = .ok (.iload_n 1, 1) := dk_27 (dk_at dksX0_extreme_1 11 rfl rfl)
theorem dX0_extreme_35 : decode cX0_extreme 35 = .ok (.invokevirtual 407, 3) := dk_182 1 151 (dk_at dksX0_extreme_1 12 rfl rfl)
theorem dX0_extreme_38 : decode cX0_extreme 38 = .ok (.invokevirtual 296, 3) := dk_182 1 40 (dk_at dksX0_extreme_1 15 rfl rfl)
theorem dX0_extreme_41 : decode cX0_extreme 41 = .ok (.ireturn, 1) := dk_172 (dk_at dksX0_extreme_1 18 rfl rfl)
abbrev cX0_extremeOf : ByteArray := prog_1_method_76_code
def yX0_extremeOf : MethodName := ⟨RX0, "extremeOf", "(I)I"⟩
def dkwX0_extremeOf_2 : List UInt8 := [180, 0, 66, 28, 46, 164, 0, 5, 29, 61, 132, 3, 1, 167, 255, 199, 28, 172]
abbrev dktX0_extremeOf_2 : List UInt8 := dkwX0_extremeOf_2 ++ []
def dkwX0_extremeOf_1 : List UInt8 := [180, 0, 66, 29, 46, 42, 180, 0, 66, 28, 46, 162, 0, 23, 167, 0, 18, 42, 180, 0, 66, 29, 46, 42]
abbrev dktX0_extremeOf_1 : List UInt8 := dkwX0_extremeOf_1 ++ dktX0_extremeOf_2
def dkwX0_extremeOf_0 : List UInt8 := [2, 61, 3, 62, 29, 42, 182, 0, 163, 180, 0, 167, 162, 0, 52, 28, 155, 0, 40, 27, 154, 0, 21, 42]
abbrev dktX0_extremeOf_0 : List UInt8 := dkwX0_extremeOf_0 ++ dktX0_extremeOf_1
theorem dksX0_extremeOf_0 : cX0_extremeOf.data.toList.drop 0 = dktX0_extremeOf_0 := by decide +kernel
theorem dksX0_extremeOf_1 : cX0_extremeOf.data.toList.drop 24 = dktX0_extremeOf_1 := dk_seg dksX0_extremeOf_0 24 rfl rfl
theorem dksX0_extremeOf_2 : cX0_extremeOf.data.toList.drop 48 = dktX0_extremeOf_2 := dk_seg dksX0_extremeOf_1 24 rfl rfl
theorem dX0_extremeOf_0 : decode cX0_extremeOf 0 = .ok (.iconst (-1), 1) := dk_2 (dk_at dksX0_extremeOf_0 0 rfl rfl)
theorem dX0_extremeOf_1 : decode cX0_extremeOf 1 = .ok (.istore_n 2, 1) := dk_61 (dk_at dksX0_extremeOf_0 1 rfl rfl)
theorem dX0_extremeOf_2 : decode cX0_extremeOf 2 = .ok (.iconst 0, 1) := dk_3 (dk_at dksX0_extremeOf_0 2 rfl rfl)
theorem dX0_extremeOf_3 : decode cX0_extremeOf 3 = .ok (.istore_n 3, 1) := dk_62 (dk_at dksX0_extremeOf_0 3 rfl rfl)
theorem dX0_extremeOf_4 : decode cX0_extremeOf 4 = .ok (.iload_n 3, 1) := dk_29 (dk_at dksX0_extremeOf_0 4 rfl rfl)
theorem dX0_extremeOf_5 : decode cX0_extremeOf 5 = .ok (.aload_n 0, 1) := dk_42 (dk_at dksX0_extremeOf_0 5 rfl rfl)
theorem dX0_extremeOf_6 : decode cX0_extremeOf 6 = .ok (.invokevirtual 163, 3) := dk_182 0 163 (dk_at dksX0_extremeOf_0 6 rfl rfl)
theorem dX0_extremeOf_9 : decode cX0_extremeOf 9 = .ok (.getfield 167, 3) := dk_180 0 167 (dk_at dksX0_extremeOf_0 9 rfl rfl)
theorem dX0_extremeOf_12 : decode cX0_extremeOf 12 = .ok (.if_icmp .ge 52, 3) := dk_162 0 52 (dk_at dksX0_extremeOf_0 12 rfl rfl)
theorem dX0_extremeOf_15 : decode cX0_extremeOf 15 = .ok (.iload_n 2, 1) := dk_28 (dk_at dksX0_extremeOf_0 15 rfl rfl)
theorem dX0_extremeOf_16 : decode cX0_extremeOf 16 = .ok (.ifCond .lt 40, 3) := dk_155 0 40 (dk_at dksX0_extremeOf_0 16 rfl rfl)
theorem dX0_extremeOf_19 : decode cX0_extremeOf 19 = .ok (.iload_n 1, 1) := dk_27 (dk_at dksX0_extremeOf_0 19 rfl rfl)
theorem dX0_extremeOf_20 : decode cX0_extremeOf 20 = .ok (.ifCond .ne 21, 3) := dk_154 0 21 (dk_at dksX0_extremeOf_0 20 rfl rfl)
theorem dX0_extremeOf_23 : decode cX0_extremeOf 23 = .ok (.aload_n 0, 1) := dk_42 (dk_at dksX0_extremeOf_0 23 rfl rfl)
theorem dX0_extremeOf_24 : decode cX0_extremeOf 24 = .ok (.getfield 66, 3) := dk_180 0 66 (dk_at dksX0_extremeOf_1 0 rfl rfl)
theorem dX0_extremeOf_27 : decode cX0_extremeOf 27 = .ok (.iload_n 3, 1) := dk_29 (dk_at dksX0_extremeOf_1 3 rfl rfl)
theorem dX0_extremeOf_28 : decode cX0_extremeOf 28 = .ok (.iaload, 1) := dk_46 (dk_at dksX0_extremeOf_1 4 rfl rfl)
theorem dX0_extremeOf_29 : decode cX0_extremeOf 29 = .ok (.aload_n 0, 1) := dk_42 (dk_at dksX0_extremeOf_1 5 rfl rfl)
theorem dX0_extremeOf_30 : decode cX0_extremeOf 30 = .ok (.getfield 66, 3) := dk_180 0 66 (dk_at dksX0_extremeOf_1 6 rfl rfl)
theorem dX0_extremeOf_33 : decode cX0_extremeOf 33 = .ok (.iload_n 2, 1) := dk_28 (dk_at dksX0_extremeOf_1 9 rfl rfl)
theorem dX0_extremeOf_34 : decode cX0_extremeOf 34 = .ok (.iaload, 1) := dk_46 (dk_at dksX0_extremeOf_1 10 rfl rfl)
theorem dX0_extremeOf_35 : decode cX0_extremeOf 35 = .ok (.if_icmp .ge 23, 3) := dk_162 0 23 (dk_at dksX0_extremeOf_1 11 rfl rfl)
theorem dX0_extremeOf_38 : decode cX0_extremeOf 38 = .ok (.goto 18, 3) := dk_167 0 18 (dk_at dksX0_extremeOf_1 14 rfl rfl)
theorem dX0_extremeOf_41 : decode cX0_extremeOf 41 = .ok (.aload_n 0, 1) := dk_42 (dk_at dksX0_extremeOf_1 17 rfl rfl)
theorem dX0_extremeOf_42 : decode cX0_extremeOf 42 = .ok (.getfield 66, 3) := dk_180 0 66 (dk_at dksX0_extremeOf_1 18 rfl rfl)
theorem dX0_extremeOf_45 : decode cX0_extremeOf 45 = .ok (.iload_n 3, 1) := dk_29 (dk_at dksX0_extremeOf_1 21 rfl rfl)
theorem dX0_extremeOf_46 : decode cX0_extremeOf 46 = .ok (.iaload, 1) := dk_46 (dk_at dksX0_extremeOf_1 22 rfl rfl)
theorem dX0_extremeOf_47 : decode cX0_extremeOf 47 = .ok (.aload_n 0, 1) := dk_42 (dk_at dksX0_extremeOf_1 23 rfl rfl)
theorem dX0_extremeOf_48 : decode cX0_extremeOf 48 = .ok (.getfield 66, 3) := dk_180 0 66 (dk_at dksX0_extremeOf_2 0 rfl rfl)
theorem dX0_extremeOf_51 : decode cX0_extremeOf 51 = .ok (.iload_n 2, 1) := dk_28 (dk_at dksX0_extremeOf_2 3 rfl rfl)
theorem dX0_extremeOf_52 : decode cX0_extremeOf 52 = .ok (.iaload, 1) := dk_46 (dk_at dksX0_extremeOf_2 4 rfl rfl)
theorem dX0_extremeOf_53 : decode cX0_extremeOf 53 = .ok (.if_icmp .le 5, 3) := dk_164 0 5 (dk_at dksX0_extremeOf_2 5 rfl rfl)
theorem dX0_extremeOf_56 : decode cX0_extremeOf 56 = .ok (.iload_n 3, 1) := dk_29 (dk_at dksX0_extremeOf_2 8 rfl rfl)
theorem dX0_extremeOf_57 : decode cX0_extremeOf 57 = .ok (.istore_n 2, 1) := dk_61 (dk_at dksX0_extremeOf_2 9 rfl rfl)
theorem dX0_extremeOf_58 : decode cX0_extremeOf 58 = .ok (.iinc 3 1, 3) := dk_132 3 1 (dk_at dksX0_extremeOf_2 10 rfl rfl)
theorem dX0_extremeOf_61 : decode cX0_extremeOf 61 = .ok (.goto (-57), 3) := dk_167 255 199 (dk_at dksX0_extremeOf_2 13 rfl rfl)
theorem dX0_extremeOf_64 : decode cX0_extremeOf 64 = .ok (.iload_n 2, 1) := dk_28 (dk_at dksX0_extremeOf_2 16 rfl rfl)
theorem dX0_extremeOf_65 : decode cX0_extremeOf 65 = .ok (.ireturn, 1) := dk_172 (dk_at dksX0_extremeOf_2 17 rfl rfl)
abbrev cX0_simplify : ByteArray := prog_1_method_78_code
def yX0_simplify : MethodName := ⟨RX0, "simplify", "()I"⟩
def dkwX0_simplify_7 : List UInt8 := [3, 42, 180, 0, 69, 190, 184, 0, 148, 42, 182, 1, 148, 172]
abbrev dktX0_simplify_7 : List UInt8 := dkwX0_simplify_7 ++ []
def dkwX0_simplify_6 : List UInt8 := [167, 255, 146, 42, 180, 0, 82, 158, 0, 5, 2, 172, 42, 180, 0, 69, 3, 42, 182, 0, 163, 180, 1, 155]
abbrev dktX0_simplify_6 : List UInt8 := dkwX0_simplify_6 ++ dktX0_simplify_7
def dkwX0_simplify_5 : List UInt8 := [181, 0, 82, 42, 180, 0, 66, 27, 92, 46, 29, 96, 79, 42, 180, 0, 66, 28, 92, 46, 29, 100, 79]
abbrev dktX0_simplify_5 : List UInt8 := dkwX0_simplify_5 ++ dktX0_simplify_6
def dkwX0_simplify_4 : List UInt8 := [46, 29, 96, 79, 42, 180, 0, 69, 16, 6, 27, 104, 28, 96, 46, 19, 1, 154, 164, 0, 9, 42, 16, 7]
abbrev dktX0_simplify_4 : List UInt8 := dkwX0_simplify_4 ++ dktX0_simplify_5
def dkwX0_simplify_3 : List UInt8 := [27, 46, 116, 42, 180, 0, 66, 28, 46, 184, 1, 137, 62, 42, 180, 0, 69, 16, 6, 27, 104, 28, 96, 92]
abbrev dktX0_simplify_3 : List UInt8 := dkwX0_simplify_3 ++ dktX0_simplify_4
def dkwX0_simplify_2 : List UInt8 := [3, 182, 1, 151, 46, 156, 0, 93, 42, 3, 182, 1, 151, 60, 42, 4, 182, 1, 151, 61, 42, 180, 0, 66]
abbrev dktX0_simplify_2 : List UInt8 := dkwX0_simplify_2 ++ dktX0_simplify_3
def dkwX0_simplify_1 : List UInt8 := [27, 3, 79, 132, 1, 1, 167, 255, 237, 42, 182, 0, 163, 180, 0, 167, 158, 0, 106, 42, 180, 0, 66, 42]
abbrev dktX0_simplify_1 : List UInt8 := dkwX0_simplify_1 ++ dktX0_simplify_2
def dkwX0_simplify_0 : List UInt8 := [42, 3, 181, 0, 82, 42, 182, 1, 143, 3, 60, 27, 42, 180, 0, 69, 190, 162, 0, 16, 42, 180, 0, 69]
abbrev dktX0_simplify_0 : List UInt8 := dkwX0_simplify_0 ++ dktX0_simplify_1
theorem dksX0_simplify_0 : cX0_simplify.data.toList.drop 0 = dktX0_simplify_0 := by decide +kernel
theorem dksX0_simplify_1 : cX0_simplify.data.toList.drop 24 = dktX0_simplify_1 := dk_seg dksX0_simplify_0 24 rfl rfl
theorem dksX0_simplify_2 : cX0_simplify.data.toList.drop 48 = dktX0_simplify_2 := dk_seg dksX0_simplify_1 24 rfl rfl
theorem dksX0_simplify_3 : cX0_simplify.data.toList.drop 72 = dktX0_simplify_3 := dk_seg dksX0_simplify_2 24 rfl rfl
theorem dksX0_simplify_4 : cX0_simplify.data.toList.drop 96 = dktX0_simplify_4 := dk_seg dksX0_simplify_3 24 rfl rfl
theorem dksX0_simplify_5 : cX0_simplify.data.toList.drop 120 = dktX0_simplify_5 := dk_seg dksX0_simplify_4 24 rfl rfl
theorem dksX0_simplify_6 : cX0_simplify.data.toList.drop 143 = dktX0_simplify_6 := dk_seg dksX0_simplify_5 23 rfl rfl
theorem dksX0_simplify_7 : cX0_simplify.data.toList.drop 167 = dktX0_simplify_7 := dk_seg dksX0_simplify_6 24 rfl rfl
theorem dX0_simplify_0 : decode cX0_simplify 0 = .ok (.aload_n 0, 1) := dk_42 (dk_at dksX0_simplify_0 0 rfl rfl)
theorem dX0_simplify_1 : decode cX0_simplify 1 = .ok (.iconst 0, 1) := dk_3 (dk_at dksX0_simplify_0 1 rfl rfl)
theorem dX0_simplify_2 : decode cX0_simplify 2 = .ok (.putfield 82, 3) := dk_181 0 82 (dk_at dksX0_simplify_0 2 rfl rfl)
theorem dX0_simplify_5 : decode cX0_simplify 5 = .ok (.aload_n 0, 1) := dk_42 (dk_at dksX0_simplify_0 5 rfl rfl)
theorem dX0_simplify_6 : decode cX0_simplify 6 = .ok (.invokevirtual 399, 3) := dk_182 1 143 (dk_at dksX0_simplify_0 6 rfl rfl)
theorem dX0_simplify_9 : decode cX0_simplify 9 = .ok (.iconst 0, 1) := dk_3 (dk_at dksX0_simplify_0 9 rfl rfl)
theorem dX0_simplify_10 : decode cX0_simplify 10 = .ok (.istore_n 1, 1) := dk_60 (dk_at dksX0_simplify_0 10 rfl rfl)
theorem dX0_simplify_11 : decode cX0_simplify 11 = .ok (.iload_n 1, 1) := dk_27 (dk_at dksX0_simplify_0 11 rfl rfl)
theorem dX0_simplify_12 : decode cX0_simplify 12 = .ok (.aload_n 0, 1) := dk_42 (dk_at dksX0_simplify_0 12 rfl rfl)
theorem dX0_simplify_13 : decode cX0_simplify 13 = .ok (.getfield 69, 3) := dk_180 0 69 (dk_at dksX0_simplify_0 13 rfl rfl)
theorem dX0_simplify_16 : decode cX0_simplify 16 = .ok (.arraylength, 1) := dk_190 (dk_at dksX0_simplify_0 16 rfl rfl)
theorem dX0_simplify_17 : decode cX0_simplify 17 = .ok (.if_icmp .ge 16, 3) := dk_162 0 16 (dk_at dksX0_simplify_0 17 rfl rfl)
theorem dX0_simplify_20 : decode cX0_simplify 20 = .ok (.aload_n 0, 1) := dk_42 (dk_at dksX0_simplify_0 20 rfl rfl)
theorem dX0_simplify_21 : decode cX0_simplify 21 = .ok (.getfield 69, 3) := dk_180 0 69 (dk_at dksX0_simplify_0 21 rfl rfl)
theorem dX0_simplify_24 : decode cX0_simplify 24 = .ok (.iload_n 1, 1) := dk_27 (dk_at dksX0_simplify_1 0 rfl rfl)
theorem dX0_simplify_25 : decode cX0_simplify 25 = .ok (.iconst 0, 1) := dk_3 (dk_at dksX0_simplify_1 1 rfl rfl)
theorem dX0_simplify_26 : decode cX0_simplify 26 = .ok (.iastore, 1) := dk_79 (dk_at dksX0_simplify_1 2 rfl rfl)
theorem dX0_simplify_27 : decode cX0_simplify 27 = .ok (.iinc 1 1, 3) := dk_132 1 1 (dk_at dksX0_simplify_1 3 rfl rfl)
theorem dX0_simplify_30 : decode cX0_simplify 30 = .ok (.goto (-19), 3) := dk_167 255 237 (dk_at dksX0_simplify_1 6 rfl rfl)
theorem dX0_simplify_33 : decode cX0_simplify 33 = .ok (.aload_n 0, 1) := dk_42 (dk_at dksX0_simplify_1 9 rfl rfl)
theorem dX0_simplify_34 : decode cX0_simplify 34 = .ok (.invokevirtual 163, 3) := dk_182 0 163 (dk_at dksX0_simplify_1 10 rfl rfl)
theorem dX0_simplify_37 : decode cX0_simplify 37 = .ok (.getfield 167, 3) := dk_180 0 167 (dk_at dksX0_simplify_1 13 rfl rfl)
theorem dX0_simplify_40 : decode cX0_simplify 40 = .ok (.ifCond .le 106, 3) := dk_158 0 106 (dk_at dksX0_simplify_1 16 rfl rfl)
theorem dX0_simplify_43 : decode cX0_simplify 43 = .ok (.aload_n 0, 1) := dk_42 (dk_at dksX0_simplify_1 19 rfl rfl)
theorem dX0_simplify_44 : decode cX0_simplify 44 = .ok (.getfield 66, 3) := dk_180 0 66 (dk_at dksX0_simplify_1 20 rfl rfl)
theorem dX0_simplify_47 : decode cX0_simplify 47 = .ok (.aload_n 0, 1) := dk_42 (dk_at dksX0_simplify_1 23 rfl rfl)
theorem dX0_simplify_48 : decode cX0_simplify 48 = .ok (.iconst 0, 1) := dk_3 (dk_at dksX0_simplify_2 0 rfl rfl)
theorem dX0_simplify_49 : decode cX0_simplify 49 = .ok (.invokevirtual 407, 3) := dk_182 1 151 (dk_at dksX0_simplify_2 1 rfl rfl)
theorem dX0_simplify_52 : decode cX0_simplify 52 = .ok (.iaload, 1) := dk_46 (dk_at dksX0_simplify_2 4 rfl rfl)
theorem dX0_simplify_53 : decode cX0_simplify 53 = .ok (.ifCond .ge 93, 3) := dk_156 0 93 (dk_at dksX0_simplify_2 5 rfl rfl)
theorem dX0_simplify_56 : decode cX0_simplify 56 = .ok (.aload_n 0, 1) := dk_42 (dk_at dksX0_simplify_2 8 rfl rfl)
theorem dX0_simplify_57 : decode cX0_simplify 57 = .ok (.iconst 0, 1) := dk_3 (dk_at dksX0_simplify_2 9 rfl rfl)
theorem dX0_simplify_58 : decode cX0_simplify 58 = .ok (.invokevirtual 407, 3) := dk_182 1 151 (dk_at dksX0_simplify_2 10 rfl rfl)
theorem dX0_simplify_61 : decode cX0_simplify 61 = .ok (.istore_n 1, 1) := dk_60 (dk_at dksX0_simplify_2 13 rfl rfl)
theorem dX0_simplify_62 : decode cX0_simplify 62 = .ok (.aload_n 0, 1) := dk_42 (dk_at dksX0_simplify_2 14 rfl rfl)
theorem dX0_simplify_63 : decode cX0_simplify 63 = .ok (.iconst 1, 1) := dk_4 (dk_at dksX0_simplify_2 15 rfl rfl)
theorem dX0_simplify_64 : decode cX0_simplify 64 = .ok (.invokevirtual 407, 3) := dk_182 1 151 (dk_at dksX0_simplify_2 16 rfl rfl)
theorem dX0_simplify_67 : decode cX0_simplify 67 = .ok (.istore_n 2, 1) := dk_61 (dk_at dksX0_simplify_2 19 rfl rfl)
theorem dX0_simplify_68 : decode cX0_simplify 68 = .ok (.aload_n 0, 1) := dk_42 (dk_at dksX0_simplify_2 20 rfl rfl)
theorem dX0_simplify_69 : decode cX0_simplify 69 = .ok (.getfield 66, 3) := dk_180 0 66 (dk_at dksX0_simplify_2 21 rfl rfl)
theorem dX0_simplify_72 : decode cX0_simplify 72 = .ok (.iload_n 1, 1) := dk_27 (dk_at dksX0_simplify_3 0 rfl rfl)
theorem dX0_simplify_73 : decode cX0_simplify 73 = .ok (.iaload, 1) := dk_46 (dk_at dksX0_simplify_3 1 rfl rfl)
theorem dX0_simplify_74 : decode cX0_simplify 74 = .ok (.ineg, 1) := dk_116 (dk_at dksX0_simplify_3 2 rfl rfl)
theorem dX0_simplify_75 : decode cX0_simplify 75 = .ok (.aload_n 0, 1) := dk_42 (dk_at dksX0_simplify_3 3 rfl rfl)
theorem dX0_simplify_76 : decode cX0_simplify 76 = .ok (.getfield 66, 3) := dk_180 0 66 (dk_at dksX0_simplify_3 4 rfl rfl)
theorem dX0_simplify_79 : decode cX0_simplify 79 = .ok (.iload_n 2, 1) := dk_28 (dk_at dksX0_simplify_3 7 rfl rfl)
theorem dX0_simplify_80 : decode cX0_simplify 80 = .ok (.iaload, 1) := dk_46 (dk_at dksX0_simplify_3 8 rfl rfl)
theorem dX0_simplify_81 : decode cX0_simplify 81 = .ok (.invokestatic 393, 3) := dk_184 1 137 (dk_at dksX0_simplify_3 9 rfl rfl)
theorem dX0_simplify_84 : decode cX0_simplify 84 = .ok (.istore_n 3, 1) := dk_62 (dk_at dksX0_simplify_3 12 rfl rfl)
theorem dX0_simplify_85 : decode cX0_simplify 85 = .ok (.aload_n 0, 1) := dk_42 (dk_at dksX0_simplify_3 13 rfl rfl)
theorem dX0_simplify_86 : decode cX0_simplify 86 = .ok (.getfield 69, 3) := dk_180 0 69 (dk_at dksX0_simplify_3 14 rfl rfl)
theorem dX0_simplify_89 : decode cX0_simplify 89 = .ok (.bipush 6, 2) := dk_16 6 (dk_at dksX0_simplify_3 17 rfl rfl)
theorem dX0_simplify_91 : decode cX0_simplify 91 = .ok (.iload_n 1, 1) := dk_27 (dk_at dksX0_simplify_3 19 rfl rfl)
theorem dX0_simplify_92 : decode cX0_simplify 92 = .ok (.imul, 1) := dk_104 (dk_at dksX0_simplify_3 20 rfl rfl)
theorem dX0_simplify_93 : decode cX0_simplify 93 = .ok (.iload_n 2, 1) := dk_28 (dk_at dksX0_simplify_3 21 rfl rfl)
theorem dX0_simplify_94 : decode cX0_simplify 94 = .ok (.iadd, 1) := dk_96 (dk_at dksX0_simplify_3 22 rfl rfl)
theorem dX0_simplify_95 : decode cX0_simplify 95 = .ok (.dup2, 1) := dk_92 (dk_at dksX0_simplify_3 23 rfl rfl)
theorem dX0_simplify_96 : decode cX0_simplify 96 = .ok (.iaload, 1) := dk_46 (dk_at dksX0_simplify_4 0 rfl rfl)
theorem dX0_simplify_97 : decode cX0_simplify 97 = .ok (.iload_n 3, 1) := dk_29 (dk_at dksX0_simplify_4 1 rfl rfl)
theorem dX0_simplify_98 : decode cX0_simplify 98 = .ok (.iadd, 1) := dk_96 (dk_at dksX0_simplify_4 2 rfl rfl)
theorem dX0_simplify_99 : decode cX0_simplify 99 = .ok (.iastore, 1) := dk_79 (dk_at dksX0_simplify_4 3 rfl rfl)
theorem dX0_simplify_100 : decode cX0_simplify 100 = .ok (.aload_n 0, 1) := dk_42 (dk_at dksX0_simplify_4 4 rfl rfl)
theorem dX0_simplify_101 : decode cX0_simplify 101 = .ok (.getfield 69, 3) := dk_180 0 69 (dk_at dksX0_simplify_4 5 rfl rfl)
theorem dX0_simplify_104 : decode cX0_simplify 104 = .ok (.bipush 6, 2) := dk_16 6 (dk_at dksX0_simplify_4 8 rfl rfl)
theorem dX0_simplify_106 : decode cX0_simplify 106 = .ok (.iload_n 1, 1) := dk_27 (dk_at dksX0_simplify_4 10 rfl rfl)
theorem dX0_simplify_107 : decode cX0_simplify 107 = .ok (.imul, 1) := dk_104 (dk_at dksX0_simplify_4 11 rfl rfl)
theorem dX0_simplify_108 : decode cX0_simplify 108 = .ok (.iload_n 2, 1) := dk_28 (dk_at dksX0_simplify_4 12 rfl rfl)
theorem dX0_simplify_109 : decode cX0_simplify 109 = .ok (.iadd, 1) := dk_96 (dk_at dksX0_simplify_4 13 rfl rfl)
theorem dX0_simplify_110 : decode cX0_simplify 110 = .ok (.iaload, 1) := dk_46 (dk_at dksX0_simplify_4 14 rfl rfl)
theorem dX0_simplify_111 : decode cX0_simplify 111 = .ok (.ldc_w 410, 3) := dk_19 1 154 (dk_at dksX0_simplify_4 15 rfl rfl)
theorem dX0_simplify_114 : decode cX0_simplify 114 = .ok (.if_icmp .le 9, 3) := dk_164 0 9 (dk_at dksX0_simplify_4 18 rfl rfl)
theorem dX0_simplify_117 : decode cX0_simplify 117 = .ok (.aload_n 0, 1) := dk_42 (dk_at dksX0_simplify_4 21 rfl rfl)
theorem dX0_simplify_118 : decode cX0_simplify 118 = .ok (.bipush 7, 2) := dk_16 7 (dk_at dksX0_simplify_4 22 rfl rfl)
theorem dX0_simplify_120 : decode cX0_simplify 120 = .ok (.putfield 82, 3) := dk_181 0 82 (dk_at dksX0_simplify_5 0 rfl rfl)
theorem dX0_simplify_123 : decode cX0_simplify 123 = .ok (.aload_n 0, 1) := dk_42 (dk_at dksX0_simplify_5 3 rfl rfl)
theorem dX0_simplify_124 : decode cX0_simplify 124 = .ok (.getfield 66, 3) := dk_180 0 66 (dk_at dksX0_simplify_5 4 rfl rfl)
theorem dX0_simplify_127 : decode cX0_simplify 127 = .ok (.iload_n 1, 1) := dk_27 (dk_at dksX0_simplify_5 7 rfl rfl)
theorem dX0_simplify_128 : decode cX0_simplify 128 = .ok (.dup2, 1) := dk_92 (dk_at dksX0_simplify_5 8 rfl rfl)
theorem dX0_simplify_129 : decode cX0_simplify 129 = .ok (.iaload, 1) := dk_46 (dk_at dksX0_simplify_5 9 rfl rfl)
theorem dX0_simplify_130 : decode cX0_simplify 130 = .ok (.iload_n 3, 1) := dk_29 (dk_at dksX0_simplify_5 10 rfl rfl)
theorem dX0_simplify_131 : decode cX0_simplify 131 = .ok (.iadd, 1) := dk_96 (dk_at dksX0_simplify_5 11 rfl rfl)
theorem dX0_simplify_132 : decode cX0_simplify 132 = .ok (.iastore, 1) := dk_79 (dk_at dksX0_simplify_5 12 rfl rfl)
theorem dX0_simplify_133 : decode cX0_simplify 133 = .ok (.aload_n 0, 1) := dk_42 (dk_at dksX0_simplify_5 13 rfl rfl)
theorem dX0_simplify_134 : decode cX0_simplify 134 = .ok (.getfield 66, 3) := dk_180 0 66 (dk_at dksX0_simplify_5 14 rfl rfl)
theorem dX0_simplify_137 : decode cX0_simplify 137 = .ok (.iload_n 2, 1) := dk_28 (dk_at dksX0_simplify_5 17 rfl rfl)
theorem dX0_simplify_138 : decode cX0_simplify 138 = .ok (.dup2, 1) := dk_92 (dk_at dksX0_simplify_5 18 rfl rfl)
theorem dX0_simplify_139 : decode cX0_simplify 139 = .ok (.iaload, 1) := dk_46 (dk_at dksX0_simplify_5 19 rfl rfl)
theorem dX0_simplify_140 : decode cX0_simplify 140 = .ok (.iload_n 3, 1) := dk_29 (dk_at dksX0_simplify_5 20 rfl rfl)
theorem dX0_simplify_141 : decode cX0_simplify 141 = .ok (.isub, 1) := dk_100 (dk_at dksX0_simplify_5 21 rfl rfl)
theorem dX0_simplify_142 : decode cX0_simplify 142 = .ok (.iastore, 1) := dk_79 (dk_at dksX0_simplify_5 22 rfl rfl)
theorem dX0_simplify_143 : decode cX0_simplify 143 = .ok (.goto (-110), 3) := dk_167 255 146 (dk_at dksX0_simplify_6 0 rfl rfl)
theorem dX0_simplify_146 : decode cX0_simplify 146 = .ok (.aload_n 0, 1) := dk_42 (dk_at dksX0_simplify_6 3 rfl rfl)
theorem dX0_simplify_147 : decode cX0_simplify 147 = .ok (.getfield 82, 3) := dk_180 0 82 (dk_at dksX0_simplify_6 4 rfl rfl)
theorem dX0_simplify_150 : decode cX0_simplify 150 = .ok (.ifCond .le 5, 3) := dk_158 0 5 (dk_at dksX0_simplify_6 7 rfl rfl)
theorem dX0_simplify_153 : decode cX0_simplify 153 = .ok (.iconst (-1), 1) := dk_2 (dk_at dksX0_simplify_6 10 rfl rfl)
theorem dX0_simplify_154 : decode cX0_simplify 154 = .ok (.ireturn, 1) := dk_172 (dk_at dksX0_simplify_6 11 rfl rfl)
theorem dX0_simplify_155 : decode cX0_simplify 155 = .ok (.aload_n 0, 1) := dk_42 (dk_at dksX0_simplify_6 12 rfl rfl)
theorem dX0_simplify_156 : decode cX0_simplify 156 = .ok (.getfield 69, 3) := dk_180 0 69 (dk_at dksX0_simplify_6 13 rfl rfl)
theorem dX0_simplify_159 : decode cX0_simplify 159 = .ok (.iconst 0, 1) := dk_3 (dk_at dksX0_simplify_6 16 rfl rfl)
theorem dX0_simplify_160 : decode cX0_simplify 160 = .ok (.aload_n 0, 1) := dk_42 (dk_at dksX0_simplify_6 17 rfl rfl)
theorem dX0_simplify_161 : decode cX0_simplify 161 = .ok (.invokevirtual 163, 3) := dk_182 0 163 (dk_at dksX0_simplify_6 18 rfl rfl)
theorem dX0_simplify_164 : decode cX0_simplify 164 = .ok (.getfield 411, 3) := dk_180 1 155 (dk_at dksX0_simplify_6 21 rfl rfl)
theorem dX0_simplify_167 : decode cX0_simplify 167 = .ok (.iconst 0, 1) := dk_3 (dk_at dksX0_simplify_7 0 rfl rfl)
theorem dX0_simplify_168 : decode cX0_simplify 168 = .ok (.aload_n 0, 1) := dk_42 (dk_at dksX0_simplify_7 1 rfl rfl)
theorem dX0_simplify_169 : decode cX0_simplify 169 = .ok (.getfield 69, 3) := dk_180 0 69 (dk_at dksX0_simplify_7 2 rfl rfl)
theorem dX0_simplify_172 : decode cX0_simplify 172 = .ok (.arraylength, 1) := dk_190 (dk_at dksX0_simplify_7 5 rfl rfl)
theorem dX0_simplify_173 : decode cX0_simplify 173 = .ok (.invokestatic 148, 3) := dk_184 0 148 (dk_at dksX0_simplify_7 6 rfl rfl)
theorem dX0_simplify_176 : decode cX0_simplify 176 = .ok (.aload_n 0, 1) := dk_42 (dk_at dksX0_simplify_7 9 rfl rfl)
theorem dX0_simplify_177 : decode cX0_simplify 177 = .ok (.invokevirtual 404, 3) := dk_182 1 148 (dk_at dksX0_simplify_7 10 rfl rfl)
theorem dX0_simplify_180 : decode cX0_simplify 180 = .ok (.ireturn, 1) := dk_172 (dk_at dksX0_simplify_7 13 rfl rfl)
abbrev cX0_chain : ByteArray := prog_1_method_79_code
def yX0_chain : MethodName := ⟨RX0, "chain", "(I)I"⟩
def dkwX0_chain_5 : List UInt8 := [167, 255, 170, 28, 4, 27, 120, 2, 130, 126, 172]
abbrev dktX0_chain_5 : List UInt8 := dkwX0_chain_5 ++ []
def dkwX0_chain_4 : List UInt8 := [158, 0, 10, 29, 4, 21, 5, 120, 128, 62, 132, 5, 1, 167, 255, 204, 132, 4, 1, 167, 255, 183]
abbrev dktX0_chain_4 : List UInt8 := dkwX0_chain_4 ++ dktX0_chain_5
def dkwX0_chain_3 : List UInt8 := [184, 1, 122, 153, 0, 31, 21, 4, 21, 5, 159, 0, 24, 42, 182, 0, 163, 21, 4, 21, 5, 182, 1, 131]
abbrev dktX0_chain_3 : List UInt8 := dkwX0_chain_3 ++ dktX0_chain_4
def dkwX0_chain_2 : List UInt8 := [180, 0, 167, 162, 0, 67, 3, 54, 5, 21, 5, 42, 182, 0, 163, 180, 0, 167, 162, 0, 46, 28, 21, 4]
abbrev dktX0_chain_2 : List UInt8 := dkwX0_chain_2 ++ dktX0_chain_3
def dkwX0_chain_1 : List UInt8 := [2, 172, 3, 61, 4, 27, 120, 62, 28, 29, 159, 0, 87, 29, 61, 3, 54, 4, 21, 4, 42, 182, 0, 163]
abbrev dktX0_chain_1 : List UInt8 := dkwX0_chain_1 ++ dktX0_chain_2
def dkwX0_chain_0 : List UInt8 := [42, 42, 27, 182, 0, 174, 153, 0, 7, 3, 167, 0, 4, 4, 181, 0, 82, 42, 180, 0, 82, 158, 0, 5]
abbrev dktX0_chain_0 : List UInt8 := dkwX0_chain_0 ++ dktX0_chain_1
theorem dksX0_chain_0 : cX0_chain.data.toList.drop 0 = dktX0_chain_0 := by decide +kernel
theorem dksX0_chain_1 : cX0_chain.data.toList.drop 24 = dktX0_chain_1 := dk_seg dksX0_chain_0 24 rfl rfl
theorem dksX0_chain_2 : cX0_chain.data.toList.drop 48 = dktX0_chain_2 := dk_seg dksX0_chain_1 24 rfl rfl
theorem dksX0_chain_3 : cX0_chain.data.toList.drop 72 = dktX0_chain_3 := dk_seg dksX0_chain_2 24 rfl rfl
theorem dksX0_chain_4 : cX0_chain.data.toList.drop 96 = dktX0_chain_4 := dk_seg dksX0_chain_3 24 rfl rfl
theorem dksX0_chain_5 : cX0_chain.data.toList.drop 118 = dktX0_chain_5 := dk_seg dksX0_chain_4 22 rfl rfl
theorem dX0_chain_0 : decode cX0_chain 0 = .ok (.aload_n 0, 1) := dk_42 (dk_at dksX0_chain_0 0 rfl rfl)
theorem dX0_chain_1 : decode cX0_chain 1 = .ok (.aload_n 0, 1) := dk_42 (dk_at dksX0_chain_0 1 rfl rfl)
theorem dX0_chain_2 : decode cX0_chain 2 = .ok (.iload_n 1, 1) := dk_27 (dk_at dksX0_chain_0 2 rfl rfl)
theorem dX0_chain_3 : decode cX0_chain 3 = .ok (.invokevirtual 174, 3) := dk_182 0 174 (dk_at dksX0_chain_0 3 rfl rfl)
theorem dX0_chain_6 : decode cX0_chain 6 = .ok (.ifCond .eq 7, 3) := dk_153 0 7 (dk_at dksX0_chain_0 6 rfl rfl)
theorem dX0_chain_9 : decode cX0_chain 9 = .ok (.iconst 0, 1) := dk_3 (dk_at dksX0_chain_0 9 rfl rfl)
theorem dX0_chain_10 : decode cX0_chain 10 = .ok (.goto 4, 3) := dk_167 0 4 (dk_at dksX0_chain_0 10 rfl rfl)
theorem dX0_chain_13 : decode cX0_chain 13 = .ok (.iconst 1, 1) := dk_4 (dk_at dksX0_chain_0 13 rfl rfl)
theorem dX0_chain_14 : decode cX0_chain 14 = .ok (.putfield 82, 3) := dk_181 0 82 (dk_at dksX0_chain_0 14 rfl rfl)
theorem dX0_chain_17 : decode cX0_chain 17 = .ok (.aload_n 0, 1) := dk_42 (dk_at dksX0_chain_0 17 rfl rfl)
theorem dX0_chain_18 : decode cX0_chain 18 = .ok (.getfield 82, 3) := dk_180 0 82 (dk_at dksX0_chain_0 18 rfl rfl)
theorem dX0_chain_21 : decode cX0_chain 21 = .ok (.ifCond .le 5, 3) := dk_158 0 5 (dk_at dksX0_chain_0 21 rfl rfl)
theorem dX0_chain_24 : decode cX0_chain 24 = .ok (.iconst (-1), 1) := dk_2 (dk_at dksX0_chain_1 0 rfl rfl)
theorem dX0_chain_25 : decode cX0_chain 25 = .ok (.ireturn, 1) := dk_172 (dk_at dksX0_chain_1 1 rfl rfl)
theorem dX0_chain_26 : decode cX0_chain 26 = .ok (.iconst 0, 1) := dk_3 (dk_at dksX0_chain_1 2 rfl rfl)
theorem dX0_chain_27 : decode cX0_chain 27 = .ok (.istore_n 2, 1) := dk_61 (dk_at dksX0_chain_1 3 rfl rfl)
theorem dX0_chain_28 : decode cX0_chain 28 = .ok (.iconst 1, 1) := dk_4 (dk_at dksX0_chain_1 4 rfl rfl)
theorem dX0_chain_29 : decode cX0_chain 29 = .ok (.iload_n 1, 1) := dk_27 (dk_at dksX0_chain_1 5 rfl rfl)
theorem dX0_chain_30 : decode cX0_chain 30 = .ok (.ishl, 1) := dk_120 (dk_at dksX0_chain_1 6 rfl rfl)
theorem dX0_chain_31 : decode cX0_chain 31 = .ok (.istore_n 3, 1) := dk_62 (dk_at dksX0_chain_1 7 rfl rfl)
theorem dX0_chain_32 : decode cX0_chain 32 = .ok (.iload_n 2, 1) := dk_28 (dk_at dksX0_chain_1 8 rfl rfl)
theorem dX0_chain_33 : decode cX0_chain 33 = .ok (.iload_n 3, 1) := dk_29 (dk_at dksX0_chain_1 9 rfl rfl)
theorem dX0_chain_34 : decode cX0_chain 34 = .ok (.if_icmp .eq 87, 3) := dk_159 0 87 (dk_at dksX0_chain_1 10 rfl rfl)
theorem dX0_chain_37 : decode cX0_chain 37 = .ok (.iload_n 3, 1) := dk_29 (dk_at dksX0_chain_1 13 rfl rfl)
theorem dX0_chain_38 : decode cX0_chain 38 = .ok (.istore_n 2, 1) := dk_61 (dk_at dksX0_chain_1 14 rfl rfl)
theorem dX0_chain_39 : decode cX0_chain 39 = .ok (.iconst 0, 1) := dk_3 (dk_at dksX0_chain_1 15 rfl rfl)
theorem dX0_chain_40 : decode cX0_chain 40 = .ok (.istore 4, 2) := dk_54 4 (dk_at dksX0_chain_1 16 rfl rfl)
theorem dX0_chain_42 : decode cX0_chain 42 = .ok (.iload 4, 2) := dk_21 4 (dk_at dksX0_chain_1 18 rfl rfl)
theorem dX0_chain_44 : decode cX0_chain 44 = .ok (.aload_n 0, 1) := dk_42 (dk_at dksX0_chain_1 20 rfl rfl)
theorem dX0_chain_45 : decode cX0_chain 45 = .ok (.invokevirtual 163, 3) := dk_182 0 163 (dk_at dksX0_chain_1 21 rfl rfl)
theorem dX0_chain_48 : decode cX0_chain 48 = .ok (.getfield 167, 3) := dk_180 0 167 (dk_at dksX0_chain_2 0 rfl rfl)
theorem dX0_chain_51 : decode cX0_chain 51 = .ok (.if_icmp .ge 67, 3) := dk_162 0 67 (dk_at dksX0_chain_2 3 rfl rfl)
theorem dX0_chain_54 : decode cX0_chain 54 = .ok (.iconst 0, 1) := dk_3 (dk_at dksX0_chain_2 6 rfl rfl)
theorem dX0_chain_55 : decode cX0_chain 55 = .ok (.istore 5, 2) := dk_54 5 (dk_at dksX0_chain_2 7 rfl rfl)
theorem dX0_chain_57 : decode cX0_chain 57 = .ok (.iload 5, 2) := dk_21 5 (dk_at dksX0_chain_2 9 rfl rfl)
theorem dX0_chain_59 : decode cX0_chain 59 = .ok (.aload_n 0, 1) := dk_42 (dk_at dksX0_chain_2 11 rfl rfl)
theorem dX0_chain_60 : decode cX0_chain 60 = .ok (.invokevirtual 163, 3) := dk_182 0 163 (dk_at dksX0_chain_2 12 rfl rfl)
theorem dX0_chain_63 : decode cX0_chain 63 = .ok (.getfield 167, 3) := dk_180 0 167 (dk_at dksX0_chain_2 15 rfl rfl)
theorem dX0_chain_66 : decode cX0_chain 66 = .ok (.if_icmp .ge 46, 3) := dk_162 0 46 (dk_at dksX0_chain_2 18 rfl rfl)
theorem dX0_chain_69 : decode cX0_chain 69 = .ok (.iload_n 2, 1) := dk_28 (dk_at dksX0_chain_2 21 rfl rfl)
theorem dX0_chain_70 : decode cX0_chain 70 = .ok (.iload 4, 2) := dk_21 4 (dk_at dksX0_chain_2 22 rfl rfl)
theorem dX0_chain_72 : decode cX0_chain 72 = .ok (.invokestatic 378, 3) := dk_184 1 122 (dk_at dksX0_chain_3 0 rfl rfl)
theorem dX0_chain_75 : decode cX0_chain 75 = .ok (.ifCond .eq 31, 3) := dk_153 0 31 (dk_at dksX0_chain_3 3 rfl rfl)
theorem dX0_chain_78 : decode cX0_chain 78 = .ok (.iload 4, 2) := dk_21 4 (dk_at dksX0_chain_3 6 rfl rfl)
theorem dX0_chain_80 : decode cX0_chain 80 = .ok (.iload 5, 2) := dk_21 5 (dk_at dksX0_chain_3 8 rfl rfl)
theorem dX0_chain_82 : decode cX0_chain 82 = .ok (.if_icmp .eq 24, 3) := dk_159 0 24 (dk_at dksX0_chain_3 10 rfl rfl)
theorem dX0_chain_85 : decode cX0_chain 85 = .ok (.aload_n 0, 1) := dk_42 (dk_at dksX0_chain_3 13 rfl rfl)
theorem dX0_chain_86 : decode cX0_chain 86 = .ok (.invokevirtual 163, 3) := dk_182 0 163 (dk_at dksX0_chain_3 14 rfl rfl)
theorem dX0_chain_89 : decode cX0_chain 89 = .ok (.iload 4, 2) := dk_21 4 (dk_at dksX0_chain_3 17 rfl rfl)
theorem dX0_chain_91 : decode cX0_chain 91 = .ok (.iload 5, 2) := dk_21 5 (dk_at dksX0_chain_3 19 rfl rfl)
theorem dX0_chain_93 : decode cX0_chain 93 = .ok (.invokevirtual 387, 3) := dk_182 1 131 (dk_at dksX0_chain_3 21 rfl rfl)
theorem dX0_chain_96 : decode cX0_chain 96 = .ok (.ifCond .le 10, 3) := dk_158 0 10 (dk_at dksX0_chain_4 0 rfl rfl)
theorem dX0_chain_99 : decode cX0_chain 99 = .ok (.iload_n 3, 1) := dk_29 (dk_at dksX0_chain_4 3 rfl rfl)
theorem dX0_chain_100 : decode cX0_chain 100 = .ok (.iconst 1, 1) := dk_4 (dk_at dksX0_chain_4 4 rfl rfl)
theorem dX0_chain_101 : decode cX0_chain 101 = .ok (.iload 5, 2) := dk_21 5 (dk_at dksX0_chain_4 5 rfl rfl)
theorem dX0_chain_103 : decode cX0_chain 103 = .ok (.ishl, 1) := dk_120 (dk_at dksX0_chain_4 7 rfl rfl)
theorem dX0_chain_104 : decode cX0_chain 104 = .ok (.ior, 1) := dk_128 (dk_at dksX0_chain_4 8 rfl rfl)
theorem dX0_chain_105 : decode cX0_chain 105 = .ok (.istore_n 3, 1) := dk_62 (dk_at dksX0_chain_4 9 rfl rfl)
theorem dX0_chain_106 : decode cX0_chain 106 = .ok (.iinc 5 1, 3) := dk_132 5 1 (dk_at dksX0_chain_4 10 rfl rfl)
theorem dX0_chain_109 : decode cX0_chain 109 = .ok (.goto (-52), 3) := dk_167 255 204 (dk_at dksX0_chain_4 13 rfl rfl)
theorem dX0_chain_112 : decode cX0_chain 112 = .ok (.iinc 4 1, 3) := dk_132 4 1 (dk_at dksX0_chain_4 16 rfl rfl)
theorem dX0_chain_115 : decode cX0_chain 115 = .ok (.goto (-73), 3) := dk_167 255 183 (dk_at dksX0_chain_4 19 rfl rfl)
theorem dX0_chain_118 : decode cX0_chain 118 = .ok (.goto (-86), 3) := dk_167 255 170 (dk_at dksX0_chain_5 0 rfl rfl)
theorem dX0_chain_121 : decode cX0_chain 121 = .ok (.iload_n 2, 1) := dk_28 (dk_at dksX0_chain_5 3 rfl rfl)
theorem dX0_chain_122 : decode cX0_chain 122 = .ok (.iconst 1, 1) := dk_4 (dk_at dksX0_chain_5 4 rfl rfl)
theorem dX0_chain_123 : decode cX0_chain 123 = .ok (.iload_n 1, 1) := dk_27 (dk_at dksX0_chain_5 5 rfl rfl)
theorem dX0_chain_124 : decode cX0_chain 124 = .ok (.ishl, 1) := dk_120 (dk_at dksX0_chain_5 6 rfl rfl)
theorem dX0_chain_125 : decode cX0_chain 125 = .ok (.iconst (-1), 1) := dk_2 (dk_at dksX0_chain_5 7 rfl rfl)
theorem dX0_chain_126 : decode cX0_chain 126 = .ok (.ixor, 1) := dk_130 (dk_at dksX0_chain_5 8 rfl rfl)
theorem dX0_chain_127 : decode cX0_chain 127 = .ok (.iand, 1) := dk_126 (dk_at dksX0_chain_5 9 rfl rfl)
theorem dX0_chain_128 : decode cX0_chain 128 = .ok (.ireturn, 1) := dk_172 (dk_at dksX0_chain_5 10 rfl rfl)
abbrev cX0_even : ByteArray := prog_1_method_82_code
def yX0_even : MethodName := ⟨RX0, "even", "(I)I"⟩
def dkwX0_even_1 : List UInt8 := [180, 0, 82, 158, 0, 7, 2, 167, 0, 12, 42, 42, 27, 182, 1, 163, 182, 1, 40, 172]
abbrev dktX0_even_1 : List UInt8 := dkwX0_even_1 ++ []
def dkwX0_even_0 : List UInt8 := [42, 27, 133, 10, 20, 1, 161, 184, 0, 170, 153, 0, 7, 3, 167, 0, 4, 4, 181, 0, 82, 42]
abbrev dktX0_even_0 : List UInt8 := dkwX0_even_0 ++ dktX0_even_1
theorem dksX0_even_0 : cX0_even.data.toList.drop 0 = dktX0_even_0 := by decide +kernel
theorem dksX0_even_1 : cX0_even.data.toList.drop 22 = dktX0_even_1 := dk_seg dksX0_even_0 22 rfl rfl
theorem dX0_even_0 : decode cX0_even 0 = .ok (.aload_n 0, 1) := dk_42 (dk_at dksX0_even_0 0 rfl rfl)
theorem dX0_even_1 : decode cX0_even 1 = .ok (.iload_n 1, 1) := dk_27 (dk_at dksX0_even_0 1 rfl rfl)
theorem dX0_even_2 : decode cX0_even 2 = .ok (.i2l, 1) := dk_133 (dk_at dksX0_even_0 2 rfl rfl)
theorem dX0_even_3 : decode cX0_even 3 = .ok (.lconst 1, 1) := dk_10 (dk_at dksX0_even_0 3 rfl rfl)
theorem dX0_even_4 : decode cX0_even 4 = .ok (.ldc2_w 417, 3) := dk_20 1 161 (dk_at dksX0_even_0 4 rfl rfl)
theorem dX0_even_7 : decode cX0_even 7 = .ok (.invokestatic 170, 3) := dk_184 0 170 (dk_at dksX0_even_0 7 rfl rfl)
theorem dX0_even_10 : decode cX0_even 10 = .ok (.ifCond .eq 7, 3) := dk_153 0 7 (dk_at dksX0_even_0 10 rfl rfl)
theorem dX0_even_13 : decode cX0_even 13 = .ok (.iconst 0, 1) := dk_3 (dk_at dksX0_even_0 13 rfl rfl)
theorem dX0_even_14 : decode cX0_even 14 = .ok (.goto 4, 3) := dk_167 0 4 (dk_at dksX0_even_0 14 rfl rfl)
theorem dX0_even_17 : decode cX0_even 17 = .ok (.iconst 1, 1) := dk_4 (dk_at dksX0_even_0 17 rfl rfl)
theorem dX0_even_18 : decode cX0_even 18 = .ok (.putfield 82, 3) := dk_181 0 82 (dk_at dksX0_even_0 18 rfl rfl)
theorem dX0_even_21 : decode cX0_even 21 = .ok (.aload_n 0, 1) := dk_42 (dk_at dksX0_even_0 21 rfl rfl)
theorem dX0_even_22 : decode cX0_even 22 = .ok (.getfield 82, 3) := dk_180 0 82 (dk_at dksX0_even_1 0 rfl rfl)
theorem dX0_even_25 : decode cX0_even 25 = .ok (.ifCond .le 7, 3) := dk_158 0 7 (dk_at dksX0_even_1 3 rfl rfl)
theorem dX0_even_28 : decode cX0_even 28 = .ok (.iconst (-1), 1) := dk_2 (dk_at dksX0_even_1 6 rfl rfl)
theorem dX0_even_29 : decode cX0_even 29 = .ok (.goto 12, 3) := dk_167 0 12 (dk_at dksX0_even_1 7 rfl rfl)
theorem dX0_even_32 : decode cX0_even 32 = .ok (.aload_n 0, 1) := dk_42 (dk_at dksX0_even_1 10 rfl rfl)
theorem dX0_even_33 : decode cX0_even 33 = .ok (.aload_n 0, 1) := dk_42 (dk_at dksX0_even_1 11 rfl rfl)
theorem dX0_even_34 : decode cX0_even 34 = .ok (.iload_n 1, 1) := dk_27 (dk_at dksX0_even_1 12 rfl rfl)
theorem dX0_even_35 : decode cX0_even 35 = .ok (.invokevirtual 419, 3) := dk_182 1 163 (dk_at dksX0_even_1 13 rfl rfl)
theorem dX0_even_38 : decode cX0_even 38 = .ok (.invokevirtual 296, 3) := dk_182 1 40 (dk_at dksX0_even_1 16 rfl rfl)
theorem dX0_even_41 : decode cX0_even 41 = .ok (.ireturn, 1) := dk_172 (dk_at dksX0_even_1 19 rfl rfl)
abbrev cX0_dinnersFor : ByteArray := prog_1_method_81_code
def yX0_dinnersFor : MethodName := ⟨RX0, "dinnersFor", "(I)I"⟩
def dkwX0_dinnersFor_4 : List UInt8 := [167, 255, 171, 2, 172]
abbrev dktX0_dinnersFor_4 : List UInt8 := dkwX0_dinnersFor_4 ++ []
def dkwX0_dinnersFor_3 : List UInt8 := [167, 0, 7, 29, 21, 5, 96, 62, 132, 4, 1, 167, 255, 195, 29, 28, 160, 0, 5, 28, 172, 132, 2, 1]
abbrev dktX0_dinnersFor_3 : List UInt8 := dkwX0_dinnersFor_3 ++ dktX0_dinnersFor_4
def dkwX0_dinnersFor_2 : List UInt8 := [154, 0, 6, 167, 0, 27, 42, 21, 4, 27, 28, 182, 1, 157, 54, 5, 21, 5, 156, 0, 7, 2]
abbrev dktX0_dinnersFor_2 : List UInt8 := dkwX0_dinnersFor_2 ++ dktX0_dinnersFor_3
def dkwX0_dinnersFor_1 : List UInt8 := [180, 0, 167, 162, 0, 55, 29, 155, 0, 51, 42, 182, 0, 163, 182, 0, 249, 21, 4, 184, 1, 122]
abbrev dktX0_dinnersFor_1 : List UInt8 := dkwX0_dinnersFor_1 ++ dktX0_dinnersFor_2
def dkwX0_dinnersFor_0 : List UInt8 := [42, 182, 1, 143, 3, 61, 28, 16, 99, 163, 0, 85, 3, 62, 3, 54, 4, 21, 4, 42, 182, 0, 163]
abbrev dktX0_dinnersFor_0 : List UInt8 := dkwX0_dinnersFor_0 ++ dktX0_dinnersFor_1
theorem dksX0_dinnersFor_0 : cX0_dinnersFor.data.toList.drop 0 = dktX0_dinnersFor_0 := by decide +kernel
theorem dksX0_dinnersFor_1 : cX0_dinnersFor.data.toList.drop 23 = dktX0_dinnersFor_1 := dk_seg dksX0_dinnersFor_0 23 rfl rfl
theorem dksX0_dinnersFor_2 : cX0_dinnersFor.data.toList.drop 45 = dktX0_dinnersFor_2 := dk_seg dksX0_dinnersFor_1 22 rfl rfl
theorem dksX0_dinnersFor_3 : cX0_dinnersFor.data.toList.drop 67 = dktX0_dinnersFor_3 := dk_seg dksX0_dinnersFor_2 22 rfl rfl
theorem dksX0_dinnersFor_4 : cX0_dinnersFor.data.toList.drop 91 = dktX0_dinnersFor_4 := dk_seg dksX0_dinnersFor_3 24 rfl rfl
theorem dX0_dinnersFor_0 : decode cX0_dinnersFor 0 = .ok (.aload_n 0, 1) := dk_42 (dk_at dksX0_dinnersFor_0 0 rfl rfl)
theorem dX0_dinnersFor_1 : decode cX0_dinnersFor 1 = .ok (.invokevirtual 399, 3) := dk_182 1 143 (dk_at dksX0_dinnersFor_0 1 rfl rfl)
theorem dX0_dinnersFor_4 : decode cX0_dinnersFor 4 = .ok (.iconst 0, 1) := dk_3 (dk_at dksX0_dinnersFor_0 4 rfl rfl)
theorem dX0_dinnersFor_5 : decode cX0_dinnersFor 5 = .ok (.istore_n 2, 1) := dk_61 (dk_at dksX0_dinnersFor_0 5 rfl rfl)
theorem dX0_dinnersFor_6 : decode cX0_dinnersFor 6 = .ok (.iload_n 2, 1) := dk_28 (dk_at dksX0_dinnersFor_0 6 rfl rfl)
theorem dX0_dinnersFor_7 : decode cX0_dinnersFor 7 = .ok (.bipush 99, 2) := dk_16 99 (dk_at dksX0_dinnersFor_0 7 rfl rfl)
theorem dX0_dinnersFor_9 : decode cX0_dinnersFor 9 = .ok (.if_icmp .gt 85, 3) := dk_163 0 85 (dk_at dksX0_dinnersFor_0 9 rfl rfl)
theorem dX0_dinnersFor_12 : decode cX0_dinnersFor 12 = .ok (.iconst 0, 1) := dk_3 (dk_at dksX0_dinnersFor_0 12 rfl rfl)
theorem dX0_dinnersFor_13 : decode cX0_dinnersFor 13 = .ok (.istore_n 3, 1) := dk_62 (dk_at dksX0_dinnersFor_0 13 rfl rfl)
theorem dX0_dinnersFor_14 : decode cX0_dinnersFor 14 = .ok (.iconst 0, 1) := dk_3 (dk_at dksX0_dinnersFor_0 14 rfl rfl)
theorem dX0_dinnersFor_15 : decode cX0_dinnersFor 15 = .ok (.istore 4, 2) := dk_54 4 (dk_at dksX0_dinnersFor_0 15 rfl rfl)
theorem dX0_dinnersFor_17 : decode cX0_dinnersFor 17 = .ok (.iload 4, 2) := dk_21 4 (dk_at dksX0_dinnersFor_0 17 rfl rfl)
theorem dX0_dinnersFor_19 : decode cX0_dinnersFor 19 = .ok (.aload_n 0, 1) := dk_42 (dk_at dksX0_dinnersFor_0 19 rfl rfl)
theorem dX0_dinnersFor_20 : decode cX0_dinnersFor 20 = .ok (.invokevirtual 163, 3) := dk_182 0 163 (dk_at dksX0_dinnersFor_0 20 rfl rfl)
theorem dX0_dinnersFor_23 : decode cX0_dinnersFor 23 = .ok (.getfield 167, 3) := dk_180 0 167 (dk_at dksX0_dinnersFor_1 0 rfl rfl)
theorem dX0_dinnersFor_26 : decode cX0_dinnersFor 26 = .ok (.if_icmp .ge 55, 3) := dk_162 0 55 (dk_at dksX0_dinnersFor_1 3 rfl rfl)
theorem dX0_dinnersFor_29 : decode cX0_dinnersFor 29 = .ok (.iload_n 3, 1) := dk_29 (dk_at dksX0_dinnersFor_1 6 rfl rfl)
theorem dX0_dinnersFor_30 : decode cX0_dinnersFor 30 = .ok (.ifCond .lt 51, 3) := dk_155 0 51 (dk_at dksX0_dinnersFor_1 7 rfl rfl)
theorem dX0_dinnersFor_33 : decode cX0_dinnersFor 33 = .ok (.aload_n 0, 1) := dk_42 (dk_at dksX0_dinnersFor_1 10 rfl rfl)
theorem dX0_dinnersFor_34 : decode cX0_dinnersFor 34 = .ok (.invokevirtual 163, 3) := dk_182 0 163 (dk_at dksX0_dinnersFor_1 11 rfl rfl)
theorem dX0_dinnersFor_37 : decode cX0_dinnersFor 37 = .ok (.invokevirtual 249, 3) := dk_182 0 249 (dk_at dksX0_dinnersFor_1 14 rfl rfl)
theorem dX0_dinnersFor_40 : decode cX0_dinnersFor 40 = .ok (.iload 4, 2) := dk_21 4 (dk_at dksX0_dinnersFor_1 17 rfl rfl)
theorem dX0_dinnersFor_42 : decode cX0_dinnersFor 42 = .ok (.invokestatic 378, 3) := dk_184 1 122 (dk_at dksX0_dinnersFor_1 19 rfl rfl)
theorem dX0_dinnersFor_45 : decode cX0_dinnersFor 45 = .ok (.ifCond .ne 6, 3) := dk_154 0 6 (dk_at dksX0_dinnersFor_2 0 rfl rfl)
theorem dX0_dinnersFor_48 : decode cX0_dinnersFor 48 = .ok (.goto 27, 3) := dk_167 0 27 (dk_at dksX0_dinnersFor_2 3 rfl rfl)
theorem dX0_dinnersFor_51 : decode cX0_dinnersFor 51 = .ok (.aload_n 0, 1) := dk_42 (dk_at dksX0_dinnersFor_2 6 rfl rfl)
theorem dX0_dinnersFor_52 : decode cX0_dinnersFor 52 = .ok (.iload 4, 2) := dk_21 4 (dk_at dksX0_dinnersFor_2 7 rfl rfl)
theorem dX0_dinnersFor_54 : decode cX0_dinnersFor 54 = .ok (.iload_n 1, 1) := dk_27 (dk_at dksX0_dinnersFor_2 9 rfl rfl)
theorem dX0_dinnersFor_55 : decode cX0_dinnersFor 55 = .ok (.iload_n 2, 1) := dk_28 (dk_at dksX0_dinnersFor_2 10 rfl rfl)
theorem dX0_dinnersFor_56 : decode cX0_dinnersFor 56 = .ok (.invokevirtual 413, 3) := dk_182 1 157 (dk_at dksX0_dinnersFor_2 11 rfl rfl)
theorem dX0_dinnersFor_59 : decode cX0_dinnersFor 59 = .ok (.istore 5, 2) := dk_54 5 (dk_at dksX0_dinnersFor_2 14 rfl rfl)
theorem dX0_dinnersFor_61 : decode cX0_dinnersFor 61 = .ok (.iload 5, 2) := dk_21 5 (dk_at dksX0_dinnersFor_2 16 rfl rfl)
theorem dX0_dinnersFor_63 : decode cX0_dinnersFor 63 = .ok (.ifCond .ge 7, 3) := dk_156 0 7 (dk_at dksX0_dinnersFor_2 18 rfl rfl)
theorem dX0_dinnersFor_66 : decode cX0_dinnersFor 66 = .ok (.iconst (-1), 1) := dk_2 (dk_at dksX0_dinnersFor_2 21 rfl rfl)
theorem dX0_dinnersFor_67 : decode cX0_dinnersFor 67 = .ok (.goto 7, 3) := dk_167 0 7 (dk_at dksX0_dinnersFor_3 0 rfl rfl)
theorem dX0_dinnersFor_70 : decode cX0_dinnersFor 70 = .ok (.iload_n 3, 1) := dk_29 (dk_at dksX0_dinnersFor_3 3 rfl rfl)
theorem dX0_dinnersFor_71 : decode cX0_dinnersFor 71 = .ok (.iload 5, 2) := dk_21 5 (dk_at dksX0_dinnersFor_3 4 rfl rfl)
theorem dX0_dinnersFor_73 : decode cX0_dinnersFor 73 = .ok (.iadd, 1) := dk_96 (dk_at dksX0_dinnersFor_3 6 rfl rfl)
theorem dX0_dinnersFor_74 : decode cX0_dinnersFor 74 = .ok (.istore_n 3, 1) := dk_62 (dk_at dksX0_dinnersFor_3 7 rfl rfl)
theorem dX0_dinnersFor_75 : decode cX0_dinnersFor 75 = .ok (.iinc 4 1, 3) := dk_132 4 1 (dk_at dksX0_dinnersFor_3 8 rfl rfl)
theorem dX0_dinnersFor_78 : decode cX0_dinnersFor 78 = .ok (.goto (-61), 3) := dk_167 255 195 (dk_at dksX0_dinnersFor_3 11 rfl rfl)
theorem dX0_dinnersFor_81 : decode cX0_dinnersFor 81 = .ok (.iload_n 3, 1) := dk_29 (dk_at dksX0_dinnersFor_3 14 rfl rfl)
theorem dX0_dinnersFor_82 : decode cX0_dinnersFor 82 = .ok (.iload_n 2, 1) := dk_28 (dk_at dksX0_dinnersFor_3 15 rfl rfl)
theorem dX0_dinnersFor_83 : decode cX0_dinnersFor 83 = .ok (.if_icmp .ne 5, 3) := dk_160 0 5 (dk_at dksX0_dinnersFor_3 16 rfl rfl)
theorem dX0_dinnersFor_86 : decode cX0_dinnersFor 86 = .ok (.iload_n 2, 1) := dk_28 (dk_at dksX0_dinnersFor_3 19 rfl rfl)
theorem dX0_dinnersFor_87 : decode cX0_dinnersFor 87 = .ok (.ireturn, 1) := dk_172 (dk_at dksX0_dinnersFor_3 20 rfl rfl)
theorem dX0_dinnersFor_88 : decode cX0_dinnersFor 88 = .ok (.iinc 2 1, 3) := dk_132 2 1 (dk_at dksX0_dinnersFor_3 21 rfl rfl)
theorem dX0_dinnersFor_91 : decode cX0_dinnersFor 91 = .ok (.goto (-85), 3) := dk_167 255 171 (dk_at dksX0_dinnersFor_4 0 rfl rfl)
theorem dX0_dinnersFor_94 : decode cX0_dinnersFor 94 = .ok (.iconst (-1), 1) := dk_2 (dk_at dksX0_dinnersFor_4 3 rfl rfl)
theorem dX0_dinnersFor_95 : decode cX0_dinnersFor 95 = .ok (.ireturn, 1) := dk_172 (dk_at dksX0_dinnersFor_4 4 rfl rfl)
abbrev cX0_evenOf : ByteArray := prog_1_method_80_code
def yX0_evenOf : MethodName := ⟨RX0, "evenOf", "(III)I"⟩
def dkwX0_evenOf_2 : List UInt8 := [104, 108, 172]
abbrev dktX0_evenOf_2 : List UInt8 := dkwX0_evenOf_2 ++ []
def dkwX0_evenOf_1 : List UInt8 := [21, 5, 155, 0, 13, 21, 5, 28, 21, 4, 104, 112, 153, 0, 7, 2, 167, 0, 10, 21, 5, 28, 21, 4]
abbrev dktX0_evenOf_1 : List UInt8 := dkwX0_evenOf_1 ++ dktX0_evenOf_2
def dkwX0_evenOf_0 : List UInt8 := [42, 182, 0, 163, 182, 0, 249, 184, 0, 252, 54, 4, 28, 29, 104, 42, 180, 0, 66, 27, 46, 100, 54, 5]
abbrev dktX0_evenOf_0 : List UInt8 := dkwX0_evenOf_0 ++ dktX0_evenOf_1
theorem dksX0_evenOf_0 : cX0_evenOf.data.toList.drop 0 = dktX0_evenOf_0 := by decide +kernel
theorem dksX0_evenOf_1 : cX0_evenOf.data.toList.drop 24 = dktX0_evenOf_1 := dk_seg dksX0_evenOf_0 24 rfl rfl
theorem dksX0_evenOf_2 : cX0_evenOf.data.toList.drop 48 = dktX0_evenOf_2 := dk_seg dksX0_evenOf_1 24 rfl rfl
theorem dX0_evenOf_0 : decode cX0_evenOf 0 = .ok (.aload_n 0, 1) := dk_42 (dk_at dksX0_evenOf_0 0 rfl rfl)
theorem dX0_evenOf_1 : decode cX0_evenOf 1 = .ok (.invokevirtual 163, 3) := dk_182 0 163 (dk_at dksX0_evenOf_0 1 rfl rfl)
theorem dX0_evenOf_4 : decode cX0_evenOf 4 = .ok (.invokevirtual 249, 3) := dk_182 0 249 (dk_at dksX0_evenOf_0 4 rfl rfl)
theorem dX0_evenOf_7 : decode cX0_evenOf 7 = .ok (.invokestatic 252, 3) := dk_184 0 252 (dk_at dksX0_evenOf_0 7 rfl rfl)
theorem dX0_evenOf_10 : decode cX0_evenOf 10 = .ok (.istore 4, 2) := dk_54 4 (dk_at dksX0_evenOf_0 10 rfl rfl)
theorem dX0_evenOf_12 : decode cX0_evenOf 12 = .ok (.iload_n 2, 1) := dk_28 (dk_at dksX0_evenOf_0 12 rfl rfl)
theorem dX0_evenOf_13 : decode cX0_evenOf 13 = .ok (.iload_n 3, 1) := dk_29 (dk_at dksX0_evenOf_0 13 rfl rfl)
theorem dX0_evenOf_14 : decode cX0_evenOf 14 = .ok (.imul, 1) := dk_104 (dk_at dksX0_evenOf_0 14 rfl rfl)
theorem dX0_evenOf_15 : decode cX0_evenOf 15 = .ok (.aload_n 0, 1) := dk_42 (dk_at dksX0_evenOf_0 15 rfl rfl)
theorem dX0_evenOf_16 : decode cX0_evenOf 16 = .ok (.getfield 66, 3) := dk_180 0 66 (dk_at dksX0_evenOf_0 16 rfl rfl)
theorem dX0_evenOf_19 : decode cX0_evenOf 19 = .ok (.iload_n 1, 1) := dk_27 (dk_at dksX0_evenOf_0 19 rfl rfl)
theorem dX0_evenOf_20 : decode cX0_evenOf 20 = .ok (.iaload, 1) := dk_46 (dk_at dksX0_evenOf_0 20 rfl rfl)
theorem dX0_evenOf_21 : decode cX0_evenOf 21 = .ok (.isub, 1) := dk_100 (dk_at dksX0_evenOf_0 21 rfl rfl)
theorem dX0_evenOf_22 : decode cX0_evenOf 22 = .ok (.istore 5, 2) := dk_54 5 (dk_at dksX0_evenOf_0 22 rfl rfl)
theorem dX0_evenOf_24 : decode cX0_evenOf 24 = .ok (.iload 5, 2) := dk_21 5 (dk_at dksX0_evenOf_1 0 rfl rfl)
theorem dX0_evenOf_26 : decode cX0_evenOf 26 = .ok (.ifCond .lt 13, 3) := dk_155 0 13 (dk_at dksX0_evenOf_1 2 rfl rfl)
theorem dX0_evenOf_29 : decode cX0_evenOf 29 = .ok (.iload 5, 2) := dk_21 5 (dk_at dksX0_evenOf_1 5 rfl rfl)
theorem dX0_evenOf_31 : decode cX0_evenOf 31 = .ok (.iload_n 2, 1) := dk_28 (dk_at dksX0_evenOf_1 7 rfl rfl)
theorem dX0_evenOf_32 : decode cX0_evenOf 32 = .ok (.iload 4, 2) := dk_21 4 (dk_at dksX0_evenOf_1 8 rfl rfl)
theorem dX0_evenOf_34 : decode cX0_evenOf 34 = .ok (.imul, 1) := dk_104 (dk_at dksX0_evenOf_1 10 rfl rfl)
theorem dX0_evenOf_35 : decode cX0_evenOf 35 = .ok (.irem, 1) := dk_112 (dk_at dksX0_evenOf_1 11 rfl rfl)
theorem dX0_evenOf_36 : decode cX0_evenOf 36 = .ok (.ifCond .eq 7, 3) := dk_153 0 7 (dk_at dksX0_evenOf_1 12 rfl rfl)
theorem dX0_evenOf_39 : decode cX0_evenOf 39 = .ok (.iconst (-1), 1) := dk_2 (dk_at dksX0_evenOf_1 15 rfl rfl)
theorem dX0_evenOf_40 : decode cX0_evenOf 40 = .ok (.goto 10, 3) := dk_167 0 10 (dk_at dksX0_evenOf_1 16 rfl rfl)
theorem dX0_evenOf_43 : decode cX0_evenOf 43 = .ok (.iload 5, 2) := dk_21 5 (dk_at dksX0_evenOf_1 19 rfl rfl)
theorem dX0_evenOf_45 : decode cX0_evenOf 45 = .ok (.iload_n 2, 1) := dk_28 (dk_at dksX0_evenOf_1 21 rfl rfl)
theorem dX0_evenOf_46 : decode cX0_evenOf 46 = .ok (.iload 4, 2) := dk_21 4 (dk_at dksX0_evenOf_1 22 rfl rfl)
theorem dX0_evenOf_48 : decode cX0_evenOf 48 = .ok (.imul, 1) := dk_104 (dk_at dksX0_evenOf_2 0 rfl rfl)
theorem dX0_evenOf_49 : decode cX0_evenOf 49 = .ok (.idiv, 1) := dk_108 (dk_at dksX0_evenOf_2 1 rfl rfl)
theorem dX0_evenOf_50 : decode cX0_evenOf 50 = .ok (.ireturn, 1) := dk_172 (dk_at dksX0_evenOf_2 2 rfl rfl)
abbrev cX0_evenBy : ByteArray := prog_1_method_83_code
def yX0_evenBy : MethodName := ⟨RX0, "evenBy", "(II)I"⟩
def dkwX0_evenBy_3 : List UInt8 := [29, 182, 1, 157, 167, 0, 4, 3, 182, 1, 40, 172]
abbrev dktX0_evenBy_3 : List UInt8 := dkwX0_evenBy_3 ++ []
def dkwX0_evenBy_2 : List UInt8 := [156, 0, 7, 2, 167, 0, 28, 42, 182, 0, 163, 182, 0, 249, 28, 184, 1, 122, 153, 0, 13, 42, 28, 27]
abbrev dktX0_evenBy_2 : List UInt8 := dkwX0_evenBy_2 ++ dktX0_evenBy_3
def dkwX0_evenBy_1 : List UInt8 := [167, 0, 4, 4, 181, 0, 82, 42, 180, 0, 82, 158, 0, 5, 2, 172, 42, 27, 182, 1, 163, 62, 42, 29]
abbrev dktX0_evenBy_1 : List UInt8 := dkwX0_evenBy_1 ++ dktX0_evenBy_2
def dkwX0_evenBy_0 : List UInt8 := [42, 27, 133, 10, 20, 1, 161, 184, 0, 170, 153, 0, 15, 42, 28, 182, 0, 174, 153, 0, 7, 3]
abbrev dktX0_evenBy_0 : List UInt8 := dkwX0_evenBy_0 ++ dktX0_evenBy_1
theorem dksX0_evenBy_0 : cX0_evenBy.data.toList.drop 0 = dktX0_evenBy_0 := by decide +kernel
theorem dksX0_evenBy_1 : cX0_evenBy.data.toList.drop 22 = dktX0_evenBy_1 := dk_seg dksX0_evenBy_0 22 rfl rfl
theorem dksX0_evenBy_2 : cX0_evenBy.data.toList.drop 46 = dktX0_evenBy_2 := dk_seg dksX0_evenBy_1 24 rfl rfl
theorem dksX0_evenBy_3 : cX0_evenBy.data.toList.drop 70 = dktX0_evenBy_3 := dk_seg dksX0_evenBy_2 24 rfl rfl
theorem dX0_evenBy_0 : decode cX0_evenBy 0 = .ok (.aload_n 0, 1) := dk_42 (dk_at dksX0_evenBy_0 0 rfl rfl)
theorem dX0_evenBy_1 : decode cX0_evenBy 1 = .ok (.iload_n 1, 1) := dk_27 (dk_at dksX0_evenBy_0 1 rfl rfl)
theorem dX0_evenBy_2 : decode cX0_evenBy 2 = .ok (.i2l, 1) := dk_133 (dk_at dksX0_evenBy_0 2 rfl rfl)
theorem dX0_evenBy_3 : decode cX0_evenBy 3 = .ok (.lconst 1, 1) := dk_10 (dk_at dksX0_evenBy_0 3 rfl rfl)
theorem dX0_evenBy_4 : decode cX0_evenBy 4 = .ok (.ldc2_w 417, 3) := dk_20 1 161 (dk_at dksX0_evenBy_0 4 rfl rfl)
theorem dX0_evenBy_7 : decode cX0_evenBy 7 = .ok (.invokestatic 170, 3) := dk_184 0 170 (dk_at dksX0_evenBy_0 7 rfl rfl)
theorem dX0_evenBy_10 : decode cX0_evenBy 10 = .ok (.ifCond .eq 15, 3) := dk_153 0 15 (dk_at dksX0_evenBy_0 10 rfl rfl)
theorem dX0_evenBy_13 : decode cX0_evenBy 13 = .ok (.aload_n 0, 1) := dk_42 (dk_at dksX0_evenBy_0 13 rfl rfl)
theorem dX0_evenBy_14 : decode cX0_evenBy 14 = .ok (.iload_n 2, 1) := dk_28 (dk_at dksX0_evenBy_0 14 rfl rfl)
theorem dX0_evenBy_15 : decode cX0_evenBy 15 = .ok (.invokevirtual 174, 3) := dk_182 0 174 (dk_at dksX0_evenBy_0 15 rfl rfl)
theorem dX0_evenBy_18 : decode cX0_evenBy 18 = .ok (.ifCond .eq 7, 3) := dk_153 0 7 (dk_at dksX0_evenBy_0 18 rfl rfl)
theorem dX0_evenBy_21 : decode cX0_evenBy 21 = .ok (.iconst 0, 1) := dk_3 (dk_at dksX0_evenBy_0 21 rfl rfl)
theorem dX0_evenBy_22 : decode cX0_evenBy 22 = .ok (.goto 4, 3) := dk_167 0 4 (dk_at dksX0_evenBy_1 0 rfl rfl)
theorem dX0_evenBy_25 : decode cX0_evenBy 25 = .ok (.iconst 1, 1) := dk_4 (dk_at dksX0_evenBy_1 3 rfl rfl)
theorem dX0_evenBy_26 : decode cX0_evenBy 26 = .ok (.putfield 82, 3) := dk_181 0 82 (dk_at dksX0_evenBy_1 4 rfl rfl)
theorem dX0_evenBy_29 : decode cX0_evenBy 29 = .ok (.aload_n 0, 1) := dk_42 (dk_at dksX0_evenBy_1 7 rfl rfl)
theorem dX0_evenBy_30 : decode cX0_evenBy 30 = .ok (.getfield 82, 3) := dk_180 0 82 (dk_at dksX0_evenBy_1 8 rfl rfl)
theorem dX0_evenBy_33 : decode cX0_evenBy 33 = .ok (.ifCond .le 5, 3) := dk_158 0 5 (dk_at dksX0_evenBy_1 11 rfl rfl)
theorem dX0_evenBy_36 : decode cX0_evenBy 36 = .ok (.iconst (-1), 1) := dk_2 (dk_at dksX0_evenBy_1 14 rfl rfl)
theorem dX0_evenBy_37 : decode cX0_evenBy 37 = .ok (.ireturn, 1) := dk_172 (dk_at dksX0_evenBy_1 15 rfl rfl)
theorem dX0_evenBy_38 : decode cX0_evenBy 38 = .ok (.aload_n 0, 1) := dk_42 (dk_at dksX0_evenBy_1 16 rfl rfl)
theorem dX0_evenBy_39 : decode cX0_evenBy 39 = .ok (.iload_n 1, 1) := dk_27 (dk_at dksX0_evenBy_1 17 rfl rfl)
theorem dX0_evenBy_40 : decode cX0_evenBy 40 = .ok (.invokevirtual 419, 3) := dk_182 1 163 (dk_at dksX0_evenBy_1 18 rfl rfl)
theorem dX0_evenBy_43 : decode cX0_evenBy 43 = .ok (.istore_n 3, 1) := dk_62 (dk_at dksX0_evenBy_1 21 rfl rfl)
theorem dX0_evenBy_44 : decode cX0_evenBy 44 = .ok (.aload_n 0, 1) := dk_42 (dk_at dksX0_evenBy_1 22 rfl rfl)
theorem dX0_evenBy_45 : decode cX0_evenBy 45 = .ok (.iload_n 3, 1) := dk_29 (dk_at dksX0_evenBy_1 23 rfl rfl)
theorem dX0_evenBy_46 : decode cX0_evenBy 46 = .ok (.ifCond .ge 7, 3) := dk_156 0 7 (dk_at dksX0_evenBy_2 0 rfl rfl)
theorem dX0_evenBy_49 : decode cX0_evenBy 49 = .ok (.iconst (-1), 1) := dk_2 (dk_at dksX0_evenBy_2 3 rfl rfl)
theorem dX0_evenBy_50 : decode cX0_evenBy 50 = .ok (.goto 28, 3) := dk_167 0 28 (dk_at dksX0_evenBy_2 4 rfl rfl)
theorem dX0_evenBy_53 : decode cX0_evenBy 53 = .ok (.aload_n 0, 1) := dk_42 (dk_at dksX0_evenBy_2 7 rfl rfl)
theorem dX0_evenBy_54 : decode cX0_evenBy 54 = .ok (.invokevirtual 163, 3) := dk_182 0 163 (dk_at dksX0_evenBy_2 8 rfl rfl)
theorem dX0_evenBy_57 : decode cX0_evenBy 57 = .ok (.invokevirtual 249, 3) := dk_182 0 249 (dk_at dksX0_evenBy_2 11 rfl rfl)
theorem dX0_evenBy_60 : decode cX0_evenBy 60 = .ok (.iload_n 2, 1) := dk_28 (dk_at dksX0_evenBy_2 14 rfl rfl)
theorem dX0_evenBy_61 : decode cX0_evenBy 61 = .ok (.invokestatic 378, 3) := dk_184 1 122 (dk_at dksX0_evenBy_2 15 rfl rfl)
theorem dX0_evenBy_64 : decode cX0_evenBy 64 = .ok (.ifCond .eq 13, 3) := dk_153 0 13 (dk_at dksX0_evenBy_2 18 rfl rfl)
theorem dX0_evenBy_67 : decode cX0_evenBy 67 = .ok (.aload_n 0, 1) := dk_42 (dk_at dksX0_evenBy_2 21 rfl rfl)
theorem dX0_evenBy_68 : decode cX0_evenBy 68 = .ok (.iload_n 2, 1) := dk_28 (dk_at dksX0_evenBy_2 22 rfl rfl)
theorem dX0_evenBy_69 : decode cX0_evenBy 69 = .ok (.iload_n 1, 1) := dk_27 (dk_at dksX0_evenBy_2 23 rfl rfl)
theorem dX0_evenBy_70 : decode cX0_evenBy 70 = .ok (.iload_n 3, 1) := dk_29 (dk_at dksX0_evenBy_3 0 rfl rfl)
theorem dX0_evenBy_71 : decode cX0_evenBy 71 = .ok (.invokevirtual 413, 3) := dk_182 1 157 (dk_at dksX0_evenBy_3 1 rfl rfl)
theorem dX0_evenBy_74 : decode cX0_evenBy 74 = .ok (.goto 4, 3) := dk_167 0 4 (dk_at dksX0_evenBy_3 4 rfl rfl)
theorem dX0_evenBy_77 : decode cX0_evenBy 77 = .ok (.iconst 0, 1) := dk_3 (dk_at dksX0_evenBy_3 7 rfl rfl)
theorem dX0_evenBy_78 : decode cX0_evenBy 78 = .ok (.invokevirtual 296, 3) := dk_182 1 40 (dk_at dksX0_evenBy_3 8 rfl rfl)
theorem dX0_evenBy_81 : decode cX0_evenBy 81 = .ok (.ireturn, 1) := dk_172 (dk_at dksX0_evenBy_3 11 rfl rfl)
abbrev cX0_comes : ByteArray := prog_1_method_84_code
def yX0_comes : MethodName := ⟨RX0, "comes", "(II)I"⟩
def dkwX0_comes_3 : List UInt8 := [180, 1, 14, 4, 27, 120, 130, 181, 1, 14, 42, 182, 0, 163, 180, 1, 14, 184, 0, 252, 172]
abbrev dktX0_comes_3 : List UInt8 := dkwX0_comes_3 ++ []
def dkwX0_comes_2 : List UInt8 := [16, 7, 167, 0, 4, 3, 181, 0, 82, 42, 180, 0, 82, 158, 0, 5, 2, 172, 42, 182, 0, 163, 89]
abbrev dktX0_comes_2 : List UInt8 := dkwX0_comes_2 ++ dktX0_comes_3
def dkwX0_comes_1 : List UInt8 := [182, 0, 163, 180, 1, 14, 27, 184, 1, 122, 28, 4, 160, 0, 7, 4, 167, 0, 4, 3, 160, 0, 8]
abbrev dktX0_comes_1 : List UInt8 := dkwX0_comes_1 ++ dktX0_comes_2
def dkwX0_comes_0 : List UInt8 := [42, 42, 27, 182, 0, 174, 153, 0, 13, 28, 133, 9, 10, 184, 0, 170, 154, 0, 7, 4, 167, 0, 33, 42]
abbrev dktX0_comes_0 : List UInt8 := dkwX0_comes_0 ++ dktX0_comes_1
theorem dksX0_comes_0 : cX0_comes.data.toList.drop 0 = dktX0_comes_0 := by decide +kernel
theorem dksX0_comes_1 : cX0_comes.data.toList.drop 24 = dktX0_comes_1 := dk_seg dksX0_comes_0 24 rfl rfl
theorem dksX0_comes_2 : cX0_comes.data.toList.drop 47 = dktX0_comes_2 := dk_seg dksX0_comes_1 23 rfl rfl
theorem dksX0_comes_3 : cX0_comes.data.toList.drop 70 = dktX0_comes_3 := dk_seg dksX0_comes_2 23 rfl rfl
theorem dX0_comes_0 : decode cX0_comes 0 = .ok (.aload_n 0, 1) := dk_42 (dk_at dksX0_comes_0 0 rfl rfl)
theorem dX0_comes_1 : decode cX0_comes 1 = .ok (.aload_n 0, 1) := dk_42 (dk_at dksX0_comes_0 1 rfl rfl)
theorem dX0_comes_2 : decode cX0_comes 2 = .ok (.iload_n 1, 1) := dk_27 (dk_at dksX0_comes_0 2 rfl rfl)
theorem dX0_comes_3 : decode cX0_comes 3 = .ok (.invokevirtual 174, 3) := dk_182 0 174 (dk_at dksX0_comes_0 3 rfl rfl)
theorem dX0_comes_6 : decode cX0_comes 6 = .ok (.ifCond .eq 13, 3) := dk_153 0 13 (dk_at dksX0_comes_0 6 rfl rfl)
theorem dX0_comes_9 : decode cX0_comes 9 = .ok (.iload_n 2, 1) := dk_28 (dk_at dksX0_comes_0 9 rfl rfl)
theorem dX0_comes_10 : decode cX0_comes 10 = .ok (.i2l, 1) := dk_133 (dk_at dksX0_comes_0 10 rfl rfl)
theorem dX0_comes_11 : decode cX0_comes 11 = .ok (.lconst 0, 1) := dk_9 (dk_at dksX0_comes_0 11 rfl rfl)
theorem dX0_comes_12 : decode cX0_comes 12 = .ok (.lconst 1, 1) := dk_10 (dk_at dksX0_comes_0 12 rfl rfl)
theorem dX0_comes_13 : decode cX0_comes 13 = .ok (.invokestatic 170, 3) := dk_184 0 170 (dk_at dksX0_comes_0 13 rfl rfl)
theorem dX0_comes_16 : decode cX0_comes 16 = .ok (.ifCond .ne 7, 3) := dk_154 0 7 (dk_at dksX0_comes_0 16 rfl rfl)
theorem dX0_comes_19 : decode cX0_comes 19 = .ok (.iconst 1, 1) := dk_4 (dk_at dksX0_comes_0 19 rfl rfl)
theorem dX0_comes_20 : decode cX0_comes 20 = .ok (.goto 33, 3) := dk_167 0 33 (dk_at dksX0_comes_0 20 rfl rfl)
theorem dX0_comes_23 : decode cX0_comes 23 = .ok (.aload_n 0, 1) := dk_42 (dk_at dksX0_comes_0 23 rfl rfl)
theorem dX0_comes_24 : decode cX0_comes 24 = .ok (.invokevirtual 163, 3) := dk_182 0 163 (dk_at dksX0_comes_1 0 rfl rfl)
theorem dX0_comes_27 : decode cX0_comes 27 = .ok (.getfield 270, 3) := dk_180 1 14 (dk_at dksX0_comes_1 3 rfl rfl)
theorem dX0_comes_30 : decode cX0_comes 30 = .ok (.iload_n 1, 1) := dk_27 (dk_at dksX0_comes_1 6 rfl rfl)
theorem dX0_comes_31 : decode cX0_comes 31 = .ok (.invokestatic 378, 3) := dk_184 1 122 (dk_at dksX0_comes_1 7 rfl rfl)
theorem dX0_comes_34 : decode cX0_comes 34 = .ok (.iload_n 2, 1) := dk_28 (dk_at dksX0_comes_1 10 rfl rfl)
theorem dX0_comes_35 : decode cX0_comes 35 = .ok (.iconst 1, 1) := dk_4 (dk_at dksX0_comes_1 11 rfl rfl)
theorem dX0_comes_36 : decode cX0_comes 36 = .ok (.if_icmp .ne 7, 3) := dk_160 0 7 (dk_at dksX0_comes_1 12 rfl rfl)
theorem dX0_comes_39 : decode cX0_comes 39 = .ok (.iconst 1, 1) := dk_4 (dk_at dksX0_comes_1 15 rfl rfl)
theorem dX0_comes_40 : decode cX0_comes 40 = .ok (.goto 4, 3) := dk_167 0 4 (dk_at dksX0_comes_1 16 rfl rfl)
theorem dX0_comes_43 : decode cX0_comes 43 = .ok (.iconst 0, 1) := dk_3 (dk_at dksX0_comes_1 19 rfl rfl)
theorem dX0_comes_44 : decode cX0_comes 44 = .ok (.if_icmp .ne 8, 3) := dk_160 0 8 (dk_at dksX0_comes_1 20 rfl rfl)
theorem dX0_comes_47 : decode cX0_comes 47 = .ok (.bipush 7, 2) := dk_16 7 (dk_at dksX0_comes_2 0 rfl rfl)
theorem dX0_comes_49 : decode cX0_comes 49 = .ok (.goto 4, 3) := dk_167 0 4 (dk_at dksX0_comes_2 2 rfl rfl)
theorem dX0_comes_52 : decode cX0_comes 52 = .ok (.iconst 0, 1) := dk_3 (dk_at dksX0_comes_2 5 rfl rfl)
theorem dX0_comes_53 : decode cX0_comes 53 = .ok (.putfield 82, 3) := dk_181 0 82 (dk_at dksX0_comes_2 6 rfl rfl)
theorem dX0_comes_56 : decode cX0_comes 56 = .ok (.aload_n 0, 1) := dk_42 (dk_at dksX0_comes_2 9 rfl rfl)
theorem dX0_comes_57 : decode cX0_comes 57 = .ok (.getfield 82, 3) := dk_180 0 82 (dk_at dksX0_comes_2 10 rfl rfl)
theorem dX0_comes_60 : decode cX0_comes 60 = .ok (.ifCond .le 5, 3) := dk_158 0 5 (dk_at dksX0_comes_2 13 rfl rfl)
theorem dX0_comes_63 : decode cX0_comes 63 = .ok (.iconst (-1), 1) := dk_2 (dk_at dksX0_comes_2 16 rfl rfl)
theorem dX0_comes_64 : decode cX0_comes 64 = .ok (.ireturn, 1) := dk_172 (dk_at dksX0_comes_2 17 rfl rfl)
theorem dX0_comes_65 : decode cX0_comes 65 = .ok (.aload_n 0, 1) := dk_42 (dk_at dksX0_comes_2 18 rfl rfl)
theorem dX0_comes_66 : decode cX0_comes 66 = .ok (.invokevirtual 163, 3) := dk_182 0 163 (dk_at dksX0_comes_2 19 rfl rfl)
theorem dX0_comes_69 : decode cX0_comes 69 = .ok (.dup, 1) := dk_89 (dk_at dksX0_comes_2 22 rfl rfl)
theorem dX0_comes_70 : decode cX0_comes 70 = .ok (.getfield 270, 3) := dk_180 1 14 (dk_at dksX0_comes_3 0 rfl rfl)
theorem dX0_comes_73 : decode cX0_comes 73 = .ok (.iconst 1, 1) := dk_4 (dk_at dksX0_comes_3 3 rfl rfl)
theorem dX0_comes_74 : decode cX0_comes 74 = .ok (.iload_n 1, 1) := dk_27 (dk_at dksX0_comes_3 4 rfl rfl)
theorem dX0_comes_75 : decode cX0_comes 75 = .ok (.ishl, 1) := dk_120 (dk_at dksX0_comes_3 5 rfl rfl)
theorem dX0_comes_76 : decode cX0_comes 76 = .ok (.ixor, 1) := dk_130 (dk_at dksX0_comes_3 6 rfl rfl)
theorem dX0_comes_77 : decode cX0_comes 77 = .ok (.putfield 270, 3) := dk_181 1 14 (dk_at dksX0_comes_3 7 rfl rfl)
theorem dX0_comes_80 : decode cX0_comes 80 = .ok (.aload_n 0, 1) := dk_42 (dk_at dksX0_comes_3 10 rfl rfl)
theorem dX0_comes_81 : decode cX0_comes 81 = .ok (.invokevirtual 163, 3) := dk_182 0 163 (dk_at dksX0_comes_3 11 rfl rfl)
theorem dX0_comes_84 : decode cX0_comes 84 = .ok (.getfield 270, 3) := dk_180 1 14 (dk_at dksX0_comes_3 14 rfl rfl)
theorem dX0_comes_87 : decode cX0_comes 87 = .ok (.invokestatic 252, 3) := dk_184 0 252 (dk_at dksX0_comes_3 17 rfl rfl)
theorem dX0_comes_90 : decode cX0_comes 90 = .ok (.ireturn, 1) := dk_172 (dk_at dksX0_comes_3 20 rfl rfl)
abbrev cX0_buys : ByteArray := prog_1_method_85_code
def yX0_buys : MethodName := ⟨RX0, "buys", "()I"⟩
def dkwX0_buys_0 : List UInt8 := [42, 42, 182, 0, 163, 182, 1, 166, 182, 1, 40, 172]
abbrev dktX0_buys_0 : List UInt8 := dkwX0_buys_0 ++ []
theorem dksX0_buys_0 : cX0_buys.data.toList.drop 0 = dktX0_buys_0 := by decide +kernel
theorem dX0_buys_0 : decode cX0_buys 0 = .ok (.aload_n 0, 1) := dk_42 (dk_at dksX0_buys_0 0 rfl rfl)
theorem dX0_buys_1 : decode cX0_buys 1 = .ok (.aload_n 0, 1) := dk_42 (dk_at dksX0_buys_0 1 rfl rfl)
theorem dX0_buys_2 : decode cX0_buys 2 = .ok (.invokevirtual 163, 3) := dk_182 0 163 (dk_at dksX0_buys_0 2 rfl rfl)
theorem dX0_buys_5 : decode cX0_buys 5 = .ok (.invokevirtual 422, 3) := dk_182 1 166 (dk_at dksX0_buys_0 5 rfl rfl)
theorem dX0_buys_8 : decode cX0_buys 8 = .ok (.invokevirtual 296, 3) := dk_182 1 40 (dk_at dksX0_buys_0 8 rfl rfl)
theorem dX0_buys_11 : decode cX0_buys 11 = .ok (.ireturn, 1) := dk_172 (dk_at dksX0_buys_0 11 rfl rfl)
abbrev cX0_round : ByteArray := prog_1_method_86_code
def yX0_round : MethodName := ⟨RX0, "round", "()I"⟩
def dkwX0_round_0 : List UInt8 := [42, 42, 182, 0, 163, 182, 1, 169, 182, 1, 40, 172]
abbrev dktX0_round_0 : List UInt8 := dkwX0_round_0 ++ []
theorem dksX0_round_0 : cX0_round.data.toList.drop 0 = dktX0_round_0 := by decide +kernel
theorem dX0_round_0 : decode cX0_round 0 = .ok (.aload_n 0, 1) := dk_42 (dk_at dksX0_round_0 0 rfl rfl)
theorem dX0_round_1 : decode cX0_round 1 = .ok (.aload_n 0, 1) := dk_42 (dk_at dksX0_round_0 1 rfl rfl)
theorem dX0_round_2 : decode cX0_round 2 = .ok (.invokevirtual 163, 3) := dk_182 0 163 (dk_at dksX0_round_0 2 rfl rfl)
theorem dX0_round_5 : decode cX0_round 5 = .ok (.invokevirtual 425, 3) := dk_182 1 169 (dk_at dksX0_round_0 5 rfl rfl)
theorem dX0_round_8 : decode cX0_round 8 = .ok (.invokevirtual 296, 3) := dk_182 1 40 (dk_at dksX0_round_0 8 rfl rfl)
theorem dX0_round_11 : decode cX0_round 11 = .ok (.ireturn, 1) := dk_172 (dk_at dksX0_round_0 11 rfl rfl)
abbrev cX0_drinks : ByteArray := prog_1_method_87_code
def yX0_drinks : MethodName := ⟨RX0, "drinks", "(I)I"⟩
def dkwX0_drinks_1 : List UInt8 := [2, 167, 0, 12, 42, 182, 0, 163, 180, 1, 172, 27, 46, 172]
abbrev dktX0_drinks_1 : List UInt8 := dkwX0_drinks_1 ++ []
def dkwX0_drinks_0 : List UInt8 := [42, 42, 27, 182, 0, 174, 153, 0, 7, 3, 167, 0, 4, 4, 181, 0, 82, 42, 180, 0, 82, 158, 0, 7]
abbrev dktX0_drinks_0 : List UInt8 := dkwX0_drinks_0 ++ dktX0_drinks_1
theorem dksX0_drinks_0 : cX0_drinks.data.toList.drop 0 = dktX0_drinks_0 := by decide +kernel
theorem dksX0_drinks_1 : cX0_drinks.data.toList.drop 24 = dktX0_drinks_1 := dk_seg dksX0_drinks_0 24 rfl rfl
theorem dX0_drinks_0 : decode cX0_drinks 0 = .ok (.aload_n 0, 1) := dk_42 (dk_at dksX0_drinks_0 0 rfl rfl)
theorem dX0_drinks_1 : decode cX0_drinks 1 = .ok (.aload_n 0, 1) := dk_42 (dk_at dksX0_drinks_0 1 rfl rfl)
theorem dX0_drinks_2 : decode cX0_drinks 2 = .ok (.iload_n 1, 1) := dk_27 (dk_at dksX0_drinks_0 2 rfl rfl)
theorem dX0_drinks_3 : decode cX0_drinks 3 = .ok (.invokevirtual 174, 3) := dk_182 0 174 (dk_at dksX0_drinks_0 3 rfl rfl)
theorem dX0_drinks_6 : decode cX0_drinks 6 = .ok (.ifCond .eq 7, 3) := dk_153 0 7 (dk_at dksX0_drinks_0 6 rfl rfl)
theorem dX0_drinks_9 : decode cX0_drinks 9 = .ok (.iconst 0, 1) := dk_3 (dk_at dksX0_drinks_0 9 rfl rfl)
theorem dX0_drinks_10 : decode cX0_drinks 10 = .ok (.goto 4, 3) := dk_167 0 4 (dk_at dksX0_drinks_0 10 rfl rfl)
theorem dX0_drinks_13 : decode cX0_drinks 13 = .ok (.iconst 1, 1) := dk_4 (dk_at dksX0_drinks_0 13 rfl rfl)
theorem dX0_drinks_14 : decode cX0_drinks 14 = .ok (.putfield 82, 3) := dk_181 0 82 (dk_at dksX0_drinks_0 14 rfl rfl)
theorem dX0_drinks_17 : decode cX0_drinks 17 = .ok (.aload_n 0, 1) := dk_42 (dk_at dksX0_drinks_0 17 rfl rfl)
theorem dX0_drinks_18 : decode cX0_drinks 18 = .ok (.getfield 82, 3) := dk_180 0 82 (dk_at dksX0_drinks_0 18 rfl rfl)
theorem dX0_drinks_21 : decode cX0_drinks 21 = .ok (.ifCond .le 7, 3) := dk_158 0 7 (dk_at dksX0_drinks_0 21 rfl rfl)
theorem dX0_drinks_24 : decode cX0_drinks 24 = .ok (.iconst (-1), 1) := dk_2 (dk_at dksX0_drinks_1 0 rfl rfl)
theorem dX0_drinks_25 : decode cX0_drinks 25 = .ok (.goto 12, 3) := dk_167 0 12 (dk_at dksX0_drinks_1 1 rfl rfl)
theorem dX0_drinks_28 : decode cX0_drinks 28 = .ok (.aload_n 0, 1) := dk_42 (dk_at dksX0_drinks_1 4 rfl rfl)
theorem dX0_drinks_29 : decode cX0_drinks 29 = .ok (.invokevirtual 163, 3) := dk_182 0 163 (dk_at dksX0_drinks_1 5 rfl rfl)
theorem dX0_drinks_32 : decode cX0_drinks 32 = .ok (.getfield 428, 3) := dk_180 1 172 (dk_at dksX0_drinks_1 8 rfl rfl)
theorem dX0_drinks_35 : decode cX0_drinks 35 = .ok (.iload_n 1, 1) := dk_27 (dk_at dksX0_drinks_1 11 rfl rfl)
theorem dX0_drinks_36 : decode cX0_drinks 36 = .ok (.iaload, 1) := dk_46 (dk_at dksX0_drinks_1 12 rfl rfl)
theorem dX0_drinks_37 : decode cX0_drinks 37 = .ok (.ireturn, 1) := dk_172 (dk_at dksX0_drinks_1 13 rfl rfl)
abbrev cX0_evenRounds : ByteArray := prog_1_method_89_code
def yX0_evenRounds : MethodName := ⟨RX0, "evenRounds", "()I"⟩
def dkwX0_evenRounds_3 : List UInt8 := [167, 255, 227, 42, 2, 182, 1, 40, 172]
abbrev dktX0_evenRounds_3 : List UInt8 := dkwX0_evenRounds_3 ++ []
def dkwX0_evenRounds_2 : List UInt8 := [42, 180, 0, 75, 184, 1, 175, 153, 0, 5, 27, 172, 42, 180, 0, 75, 182, 1, 169, 87, 132, 1, 1]
abbrev dktX0_evenRounds_2 : List UInt8 := dkwX0_evenRounds_2 ++ dktX0_evenRounds_3
def dkwX0_evenRounds_1 : List UInt8 := [158, 0, 5, 2, 172, 42, 180, 0, 75, 42, 182, 0, 163, 182, 0, 207, 3, 60, 27, 16, 60, 163, 0, 29]
abbrev dktX0_evenRounds_1 : List UInt8 := dkwX0_evenRounds_1 ++ dktX0_evenRounds_2
def dkwX0_evenRounds_0 : List UInt8 := [42, 42, 182, 0, 163, 180, 1, 14, 154, 0, 8, 16, 6, 167, 0, 4, 3, 181, 0, 82, 42, 180, 0, 82]
abbrev dktX0_evenRounds_0 : List UInt8 := dkwX0_evenRounds_0 ++ dktX0_evenRounds_1
theorem dksX0_evenRounds_0 : cX0_evenRounds.data.toList.drop 0 = dktX0_evenRounds_0 := by decide +kernel
theorem dksX0_evenRounds_1 : cX0_evenRounds.data.toList.drop 24 = dktX0_evenRounds_1 := dk_seg dksX0_evenRounds_0 24 rfl rfl
theorem dksX0_evenRounds_2 : cX0_evenRounds.data.toList.drop 48 = dktX0_evenRounds_2 := dk_seg dksX0_evenRounds_1 24 rfl rfl
theorem dksX0_evenRounds_3 : cX0_evenRounds.data.toList.drop 71 = dktX0_evenRounds_3 := dk_seg dksX0_evenRounds_2 23 rfl rfl
theorem dX0_evenRounds_0 : decode cX0_evenRounds 0 = .ok (.aload_n 0, 1) := dk_42 (dk_at dksX0_evenRounds_0 0 rfl rfl)
theorem dX0_evenRounds_1 : decode cX0_evenRounds 1 = .ok (.aload_n 0, 1) := dk_42 (dk_at dksX0_evenRounds_0 1 rfl rfl)
theorem dX0_evenRounds_2 : decode cX0_evenRounds 2 = .ok (.invokevirtual 163, 3) := dk_182 0 163 (dk_at dksX0_evenRounds_0 2 rfl rfl)
theorem dX0_evenRounds_5 : decode cX0_evenRounds 5 = .ok (.getfield 270, 3) := dk_180 1 14 (dk_at dksX0_evenRounds_0 5 rfl rfl)
theorem dX0_evenRounds_8 : decode cX0_evenRounds 8 = .ok (.ifCond .ne 8, 3) := dk_154 0 8 (dk_at dksX0_evenRounds_0 8 rfl rfl)
theorem dX0_evenRounds_11 : decode cX0_evenRounds 11 = .ok (.bipush 6, 2) := dk_16 6 (dk_at dksX0_evenRounds_0 11 rfl rfl)
theorem dX0_evenRounds_13 : decode cX0_evenRounds 13 = .ok (.goto 4, 3) := dk_167 0 4 (dk_at dksX0_evenRounds_0 13 rfl rfl)
theorem dX0_evenRounds_16 : decode cX0_evenRounds 16 = .ok (.iconst 0, 1) := dk_3 (dk_at dksX0_evenRounds_0 16 rfl rfl)
theorem dX0_evenRounds_17 : decode cX0_evenRounds 17 = .ok (.putfield 82, 3) := dk_181 0 82 (dk_at dksX0_evenRounds_0 17 rfl rfl)
theorem dX0_evenRounds_20 : decode cX0_evenRounds 20 = .ok (.aload_n 0, 1) := dk_42 (dk_at dksX0_evenRounds_0 20 rfl rfl)
theorem dX0_evenRounds_21 : decode cX0_evenRounds 21 = .ok (.getfield 82, 3) := dk_180 0 82 (dk_at dksX0_evenRounds_0 21 rfl rfl)
theorem dX0_evenRounds_24 : decode cX0_evenRounds 24 = .ok (.ifCond .le 5, 3) := dk_158 0 5 (dk_at dksX0_evenRounds_1 0 rfl rfl)
theorem dX0_evenRounds_27 : decode cX0_evenRounds 27 = .ok (.iconst (-1), 1) := dk_2 (dk_at dksX0_evenRounds_1 3 rfl rfl)
theorem dX0_evenRounds_28 : decode cX0_evenRounds 28 = .ok (.ireturn, 1) := dk_172 (dk_at dksX0_evenRounds_1 4 rfl rfl)
theorem dX0_evenRounds_29 : decode cX0_evenRounds 29 = .ok (.aload_n 0, 1) := dk_42 (dk_at dksX0_evenRounds_1 5 rfl rfl)
theorem dX0_evenRounds_30 : decode cX0_evenRounds 30 = .ok (.getfield 75, 3) := dk_180 0 75 (dk_at dksX0_evenRounds_1 6 rfl rfl)
theorem dX0_evenRounds_33 : decode cX0_evenRounds 33 = .ok (.aload_n 0, 1) := dk_42 (dk_at dksX0_evenRounds_1 9 rfl rfl)
theorem dX0_evenRounds_34 : decode cX0_evenRounds 34 = .ok (.invokevirtual 163, 3) := dk_182 0 163 (dk_at dksX0_evenRounds_1 10 rfl rfl)
theorem dX0_evenRounds_37 : decode cX0_evenRounds 37 = .ok (.invokevirtual 207, 3) := dk_182 0 207 (dk_at dksX0_evenRounds_1 13 rfl rfl)
theorem dX0_evenRounds_40 : decode cX0_evenRounds 40 = .ok (.iconst 0, 1) := dk_3 (dk_at dksX0_evenRounds_1 16 rfl rfl)
theorem dX0_evenRounds_41 : decode cX0_evenRounds 41 = .ok (.istore_n 1, 1) := dk_60 (dk_at dksX0_evenRounds_1 17 rfl rfl)
theorem dX0_evenRounds_42 : decode cX0_evenRounds 42 = .ok (.iload_n 1, 1) := dk_27 (dk_at dksX0_evenRounds_1 18 rfl rfl)
theorem dX0_evenRounds_43 : decode cX0_evenRounds 43 = .ok (.bipush 60, 2) := dk_16 60 (dk_at dksX0_evenRounds_1 19 rfl rfl)
theorem dX0_evenRounds_45 : decode cX0_evenRounds 45 = .ok (.if_icmp .gt 29, 3) := dk_163 0 29 (dk_at dksX0_evenRounds_1 21 rfl rfl)
theorem dX0_evenRounds_48 : decode cX0_evenRounds 48 = .ok (.aload_n 0, 1) := dk_42 (dk_at dksX0_evenRounds_2 0 rfl rfl)
theorem dX0_evenRounds_49 : decode cX0_evenRounds 49 = .ok (.getfield 75, 3) := dk_180 0 75 (dk_at dksX0_evenRounds_2 1 rfl rfl)
theorem dX0_evenRounds_52 : decode cX0_evenRounds 52 = .ok (.invokestatic 431, 3) := dk_184 1 175 (dk_at dksX0_evenRounds_2 4 rfl rfl)
theorem dX0_evenRounds_55 : decode cX0_evenRounds 55 = .ok (.ifCond .eq 5, 3) := dk_153 0 5 (dk_at dksX0_evenRounds_2 7 rfl rfl)
theorem dX0_evenRounds_58 : decode cX0_evenRounds 58 = .ok (.iload_n 1, 1) := dk_27 (dk_at dksX0_evenRounds_2 10 rfl rfl)
theorem dX0_evenRounds_59 : decode cX0_evenRounds 59 = .ok (.ireturn, 1) := dk_172 (dk_at dksX0_evenRounds_2 11 rfl rfl)
theorem dX0_evenRounds_60 : decode cX0_evenRounds 60 = .ok (.aload_n 0, 1) := dk_42 (dk_at dksX0_evenRounds_2 12 rfl rfl)
theorem dX0_evenRounds_61 : decode cX0_evenRounds 61 = .ok (.getfield 75, 3) := dk_180 0 75 (dk_at dksX0_evenRounds_2 13 rfl rfl)
theorem dX0_evenRounds_64 : decode cX0_evenRounds 64 = .ok (.invokevirtual 425, 3) := dk_182 1 169 (dk_at dksX0_evenRounds_2 16 rfl rfl)
theorem dX0_evenRounds_67 : decode cX0_evenRounds 67 = .ok (.pop, 1) := dk_87 (dk_at dksX0_evenRounds_2 19 rfl rfl)
theorem dX0_evenRounds_68 : decode cX0_evenRounds 68 = .ok (.iinc 1 1, 3) := dk_132 1 1 (dk_at dksX0_evenRounds_2 20 rfl rfl)
theorem dX0_evenRounds_71 : decode cX0_evenRounds 71 = .ok (.goto (-29), 3) := dk_167 255 227 (dk_at dksX0_evenRounds_3 0 rfl rfl)
theorem dX0_evenRounds_74 : decode cX0_evenRounds 74 = .ok (.aload_n 0, 1) := dk_42 (dk_at dksX0_evenRounds_3 3 rfl rfl)
theorem dX0_evenRounds_75 : decode cX0_evenRounds 75 = .ok (.iconst (-1), 1) := dk_2 (dk_at dksX0_evenRounds_3 4 rfl rfl)
theorem dX0_evenRounds_76 : decode cX0_evenRounds 76 = .ok (.invokevirtual 296, 3) := dk_182 1 40 (dk_at dksX0_evenRounds_3 5 rfl rfl)
theorem dX0_evenRounds_79 : decode cX0_evenRounds 79 = .ok (.ireturn, 1) := dk_172 (dk_at dksX0_evenRounds_3 8 rfl rfl)
abbrev cX0_isEven : ByteArray := prog_1_method_88_code
def yX0_isEven : MethodName := ⟨RX0, "isEven", "(LLetMe$Table;)Z"⟩
def dkwX0_isEven_2 : List UInt8 := [28, 60, 132, 2, 1, 167, 255, 208, 4, 172]
abbrev dktX0_isEven_2 : List UInt8 := dkwX0_isEven_2 ++ []
def dkwX0_isEven_1 : List UInt8 := [167, 0, 26, 27, 155, 0, 20, 42, 180, 1, 172, 27, 46, 42, 180, 1, 172, 28, 46, 159, 0, 5, 3, 172]
abbrev dktX0_isEven_1 : List UInt8 := dkwX0_isEven_1 ++ dktX0_isEven_2
def dkwX0_isEven_0 : List UInt8 := [2, 60, 3, 61, 28, 42, 180, 0, 167, 162, 0, 46, 42, 180, 1, 14, 28, 184, 1, 122, 154, 0, 6]
abbrev dktX0_isEven_0 : List UInt8 := dkwX0_isEven_0 ++ dktX0_isEven_1
theorem dksX0_isEven_0 : cX0_isEven.data.toList.drop 0 = dktX0_isEven_0 := by decide +kernel
theorem dksX0_isEven_1 : cX0_isEven.data.toList.drop 23 = dktX0_isEven_1 := dk_seg dksX0_isEven_0 23 rfl rfl
theorem dksX0_isEven_2 : cX0_isEven.data.toList.drop 47 = dktX0_isEven_2 := dk_seg dksX0_isEven_1 24 rfl rfl
theorem dX0_isEven_0 : decode cX0_isEven 0 = .ok (.iconst (-1), 1) := dk_2 (dk_at dksX0_isEven_0 0 rfl rfl)
theorem dX0_isEven_1 : decode cX0_isEven 1 = .ok (.istore_n 1, 1) := dk_60 (dk_at dksX0_isEven_0 1 rfl rfl)
theorem dX0_isEven_2 : decode cX0_isEven 2 = .ok (.iconst 0, 1) := dk_3 (dk_at dksX0_isEven_0 2 rfl rfl)
theorem dX0_isEven_3 : decode cX0_isEven 3 = .ok (.istore_n 2, 1) := dk_61 (dk_at dksX0_isEven_0 3 rfl rfl)
theorem dX0_isEven_4 : decode cX0_isEven 4 = .ok (.iload_n 2, 1) := dk_28 (dk_at dksX0_isEven_0 4 rfl rfl)
theorem dX0_isEven_5 : decode cX0_isEven 5 = .ok (.aload_n 0, 1) := dk_42 (dk_at dksX0_isEven_0 5 rfl rfl)
theorem dX0_isEven_6 : decode cX0_isEven 6 = .ok (.getfield 167, 3) := dk_180 0 167 (dk_at dksX0_isEven_0 6 rfl rfl)
theorem dX0_isEven_9 : decode cX0_isEven 9 = .ok (.if_icmp .ge 46, 3) := dk_162 0 46 (dk_at dksX0_isEven_0 9 rfl rfl)
theorem dX0_isEven_12 : decode cX0_isEven 12 = .ok (.aload_n 0, 1) := dk_42 (dk_at dksX0_isEven_0 12 rfl rfl)
theorem dX0_isEven_13 : decode cX0_isEven 13 = .ok (.getfield 270, 3) := dk_180 1 14 (dk_at dksX0_isEven_0 13 rfl rfl)
theorem dX0_isEven_16 : decode cX0_isEven 16 = .ok (.iload_n 2, 1) := dk_28 (dk_at dksX0_isEven_0 16 rfl rfl)
theorem dX0_isEven_17 : decode cX0_isEven 17 = .ok (.invokestatic 378, 3) := dk_184 1 122 (dk_at dksX0_isEven_0 17 rfl rfl)
theorem dX0_isEven_20 : decode cX0_isEven 20 = .ok (.ifCond .ne 6, 3) := dk_154 0 6 (dk_at dksX0_isEven_0 20 rfl rfl)
theorem dX0_isEven_23 : decode cX0_isEven 23 = .ok (.goto 26, 3) := dk_167 0 26 (dk_at dksX0_isEven_1 0 rfl rfl)
theorem dX0_isEven_26 : decode cX0_isEven 26 = .ok (.iload_n 1, 1) := dk_27 (dk_at dksX0_isEven_1 3 rfl rfl)
theorem dX0_isEven_27 : decode cX0_isEven 27 = .ok (.ifCond .lt 20, 3) := dk_155 0 20 (dk_at dksX0_isEven_1 4 rfl rfl)
theorem dX0_isEven_30 : decode cX0_isEven 30 = .ok (.aload_n 0, 1) := dk_42 (dk_at dksX0_isEven_1 7 rfl rfl)
theorem dX0_isEven_31 : decode cX0_isEven 31 = .ok (.getfield 428, 3) := dk_180 1 172 (dk_at dksX0_isEven_1 8 rfl rfl)
theorem dX0_isEven_34 : decode cX0_isEven 34 = .ok (.iload_n 1, 1) := dk_27 (dk_at dksX0_isEven_1 11 rfl rfl)
theorem dX0_isEven_35 : decode cX0_isEven 35 = .ok (.iaload, 1) := dk_46 (dk_at dksX0_isEven_1 12 rfl rfl)
theorem dX0_isEven_36 : decode cX0_isEven 36 = .ok (.aload_n 0, 1) := dk_42 (dk_at dksX0_isEven_1 13 rfl rfl)
theorem dX0_isEven_37 : decode cX0_isEven 37 = .ok (.getfield 428, 3) := dk_180 1 172 (dk_at dksX0_isEven_1 14 rfl rfl)
theorem dX0_isEven_40 : decode cX0_isEven 40 = .ok (.iload_n 2, 1) := dk_28 (dk_at dksX0_isEven_1 17 rfl rfl)
theorem dX0_isEven_41 : decode cX0_isEven 41 = .ok (.iaload, 1) := dk_46 (dk_at dksX0_isEven_1 18 rfl rfl)
theorem dX0_isEven_42 : decode cX0_isEven 42 = .ok (.if_icmp .eq 5, 3) := dk_159 0 5 (dk_at dksX0_isEven_1 19 rfl rfl)
theorem dX0_isEven_45 : decode cX0_isEven 45 = .ok (.iconst 0, 1) := dk_3 (dk_at dksX0_isEven_1 22 rfl rfl)
theorem dX0_isEven_46 : decode cX0_isEven 46 = .ok (.ireturn, 1) := dk_172 (dk_at dksX0_isEven_1 23 rfl rfl)
theorem dX0_isEven_47 : decode cX0_isEven 47 = .ok (.iload_n 2, 1) := dk_28 (dk_at dksX0_isEven_2 0 rfl rfl)
theorem dX0_isEven_48 : decode cX0_isEven 48 = .ok (.istore_n 1, 1) := dk_60 (dk_at dksX0_isEven_2 1 rfl rfl)
theorem dX0_isEven_49 : decode cX0_isEven 49 = .ok (.iinc 2 1, 3) := dk_132 2 1 (dk_at dksX0_isEven_2 2 rfl rfl)
theorem dX0_isEven_52 : decode cX0_isEven 52 = .ok (.goto (-48), 3) := dk_167 255 208 (dk_at dksX0_isEven_2 5 rfl rfl)
theorem dX0_isEven_55 : decode cX0_isEven 55 = .ok (.iconst 1, 1) := dk_4 (dk_at dksX0_isEven_2 8 rfl rfl)
theorem dX0_isEven_56 : decode cX0_isEven 56 = .ok (.ireturn, 1) := dk_172 (dk_at dksX0_isEven_2 9 rfl rfl)
abbrev cX0_giftAt : ByteArray := prog_1_method_92_code
def yX0_giftAt : MethodName := ⟨RX0, "giftAt", "(III)I"⟩
def dkwX0_giftAt_4 : List UInt8 := [21, 4, 172]
abbrev dktX0_giftAt_4 : List UInt8 := dkwX0_giftAt_4 ++ []
def dkwX0_giftAt_3 : List UInt8 := [167, 0, 4, 3, 181, 0, 82, 132, 5, 1, 167, 255, 214, 42, 180, 0, 82, 158, 0, 7, 2, 167, 0, 5]
abbrev dktX0_giftAt_3 : List UInt8 := dkwX0_giftAt_3 ++ dktX0_giftAt_4
def dkwX0_giftAt_2 : List UInt8 := [154, 0, 35, 21, 4, 28, 184, 1, 186, 54, 4, 42, 21, 4, 19, 1, 154, 164, 0, 8, 16, 7]
abbrev dktX0_giftAt_2 : List UInt8 := dkwX0_giftAt_2 ++ dktX0_giftAt_3
def dkwX0_giftAt_1 : List UInt8 := [167, 0, 4, 4, 181, 0, 82, 27, 54, 4, 3, 54, 5, 21, 5, 29, 162, 0, 42, 42, 180, 0, 82]
abbrev dktX0_giftAt_1 : List UInt8 := dkwX0_giftAt_1 ++ dktX0_giftAt_2
def dkwX0_giftAt_0 : List UInt8 := [42, 27, 28, 184, 1, 181, 153, 0, 19, 29, 133, 9, 20, 1, 184, 184, 0, 170, 153, 0, 7, 3]
abbrev dktX0_giftAt_0 : List UInt8 := dkwX0_giftAt_0 ++ dktX0_giftAt_1
theorem dksX0_giftAt_0 : cX0_giftAt.data.toList.drop 0 = dktX0_giftAt_0 := by decide +kernel
theorem dksX0_giftAt_1 : cX0_giftAt.data.toList.drop 22 = dktX0_giftAt_1 := dk_seg dksX0_giftAt_0 22 rfl rfl
theorem dksX0_giftAt_2 : cX0_giftAt.data.toList.drop 45 = dktX0_giftAt_2 := dk_seg dksX0_giftAt_1 23 rfl rfl
theorem dksX0_giftAt_3 : cX0_giftAt.data.toList.drop 67 = dktX0_giftAt_3 := dk_seg dksX0_giftAt_2 22 rfl rfl
theorem dksX0_giftAt_4 : cX0_giftAt.data.toList.drop 91 = dktX0_giftAt_4 := dk_seg dksX0_giftAt_3 24 rfl rfl
theorem dX0_giftAt_0 : decode cX0_giftAt 0 = .ok (.aload_n 0, 1) := dk_42 (dk_at dksX0_giftAt_0 0 rfl rfl)
theorem dX0_giftAt_1 : decode cX0_giftAt 1 = .ok (.iload_n 1, 1) := dk_27 (dk_at dksX0_giftAt_0 1 rfl rfl)
theorem dX0_giftAt_2 : decode cX0_giftAt 2 = .ok (.iload_n 2, 1) := dk_28 (dk_at dksX0_giftAt_0 2 rfl rfl)
theorem dX0_giftAt_3 : decode cX0_giftAt 3 = .ok (.invokestatic 437, 3) := dk_184 1 181 (dk_at dksX0_giftAt_0 3 rfl rfl)
theorem dX0_giftAt_6 : decode cX0_giftAt 6 = .ok (.ifCond .eq 19, 3) := dk_153 0 19 (dk_at dksX0_giftAt_0 6 rfl rfl)
theorem dX0_giftAt_9 : decode cX0_giftAt 9 = .ok (.iload_n 3, 1) := dk_29 (dk_at dksX0_giftAt_0 9 rfl rfl)
theorem dX0_giftAt_10 : decode cX0_giftAt 10 = .ok (.i2l, 1) := dk_133 (dk_at dksX0_giftAt_0 10 rfl rfl)
theorem dX0_giftAt_11 : decode cX0_giftAt 11 = .ok (.lconst 0, 1) := dk_9 (dk_at dksX0_giftAt_0 11 rfl rfl)
theorem dX0_giftAt_12 : decode cX0_giftAt 12 = .ok (.ldc2_w 440, 3) := dk_20 1 184 (dk_at dksX0_giftAt_0 12 rfl rfl)
theorem dX0_giftAt_15 : decode cX0_giftAt 15 = .ok (.invokestatic 170, 3) := dk_184 0 170 (dk_at dksX0_giftAt_0 15 rfl rfl)
theorem dX0_giftAt_18 : decode cX0_giftAt 18 = .ok (.ifCond .eq 7, 3) := dk_153 0 7 (dk_at dksX0_giftAt_0 18 rfl rfl)
theorem dX0_giftAt_21 : decode cX0_giftAt 21 = .ok (.iconst 0, 1) := dk_3 (dk_at dksX0_giftAt_0 21 rfl rfl)
theorem dX0_giftAt_22 : decode cX0_giftAt 22 = .ok (.goto 4, 3) := dk_167 0 4 (dk_at dksX0_giftAt_1 0 rfl rfl)
theorem dX0_giftAt_25 : decode cX0_giftAt 25 = .ok (.iconst 1, 1) := dk_4 (dk_at dksX0_giftAt_1 3 rfl rfl)
theorem dX0_giftAt_26 : decode cX0_giftAt 26 = .ok (.putfield 82, 3) := dk_181 0 82 (dk_at dksX0_giftAt_1 4 rfl rfl)
theorem dX0_giftAt_29 : decode cX0_giftAt 29 = .ok (.iload_n 1, 1) := dk_27 (dk_at dksX0_giftAt_1 7 rfl rfl)
theorem dX0_giftAt_30 : decode cX0_giftAt 30 = .ok (.istore 4, 2) := dk_54 4 (dk_at dksX0_giftAt_1 8 rfl rfl)
theorem dX0_giftAt_32 : decode cX0_giftAt 32 = .ok (.iconst 0, 1) := dk_3 (dk_at dksX0_giftAt_1 10 rfl rfl)
theorem dX0_giftAt_33 : decode cX0_giftAt 33 = .ok (.istore 5, 2) := dk_54 5 (dk_at dksX0_giftAt_1 11 rfl rfl)
theorem dX0_giftAt_35 : decode cX0_giftAt 35 = .ok (.iload 5, 2) := dk_21 5 (dk_at dksX0_giftAt_1 13 rfl rfl)
theorem dX0_giftAt_37 : decode cX0_giftAt 37 = .ok (.iload_n 3, 1) := dk_29 (dk_at dksX0_giftAt_1 15 rfl rfl)
theorem dX0_giftAt_38 : decode cX0_giftAt 38 = .ok (.if_icmp .ge 42, 3) := dk_162 0 42 (dk_at dksX0_giftAt_1 16 rfl rfl)
theorem dX0_giftAt_41 : decode cX0_giftAt 41 = .ok (.aload_n 0, 1) := dk_42 (dk_at dksX0_giftAt_1 19 rfl rfl)
theorem dX0_giftAt_42 : decode cX0_giftAt 42 = .ok (.getfield 82, 3) := dk_180 0 82 (dk_at dksX0_giftAt_1 20 rfl rfl)
theorem dX0_giftAt_45 : decode cX0_giftAt 45 = .ok (.ifCond .ne 35, 3) := dk_154 0 35 (dk_at dksX0_giftAt_2 0 rfl rfl)
theorem dX0_giftAt_48 : decode cX0_giftAt 48 = .ok (.iload 4, 2) := dk_21 4 (dk_at dksX0_giftAt_2 3 rfl rfl)
theorem dX0_giftAt_50 : decode cX0_giftAt 50 = .ok (.iload_n 2, 1) := dk_28 (dk_at dksX0_giftAt_2 5 rfl rfl)
theorem dX0_giftAt_51 : decode cX0_giftAt 51 = .ok (.invokestatic 442, 3) := dk_184 1 186 (dk_at dksX0_giftAt_2 6 rfl rfl)
theorem dX0_giftAt_54 : decode cX0_giftAt 54 = .ok (.istore 4, 2) := dk_54 4 (dk_at dksX0_giftAt_2 9 rfl rfl)
theorem dX0_giftAt_56 : decode cX0_giftAt 56 = .ok (.aload_n 0, 1) := dk_42 (dk_at dksX0_giftAt_2 11 rfl rfl)
theorem dX0_giftAt_57 : decode cX0_giftAt 57 = .ok (.iload 4, 2) := dk_21 4 (dk_at dksX0_giftAt_2 12 rfl rfl)
theorem dX0_giftAt_59 : decode cX0_giftAt 59 = .ok (.ldc_w 410, 3) := dk_19 1 154 (dk_at dksX0_giftAt_2 14 rfl rfl)
theorem dX0_giftAt_62 : decode cX0_giftAt 62 = .ok (.if_icmp .le 8, 3) := dk_164 0 8 (dk_at dksX0_giftAt_2 17 rfl rfl)
theorem dX0_giftAt_65 : decode cX0_giftAt 65 = .ok (.bipush 7, 2) := dk_16 7 (dk_at dksX0_giftAt_2 20 rfl rfl)
theorem dX0_giftAt_67 : decode cX0_giftAt 67 = .ok (.goto 4, 3) := dk_167 0 4 (dk_at dksX0_giftAt_3 0 rfl rfl)
theorem dX0_giftAt_70 : decode cX0_giftAt 70 = .ok (.iconst 0, 1) := dk_3 (dk_at dksX0_giftAt_3 3 rfl rfl)
theorem dX0_giftAt_71 : decode cX0_giftAt 71 = .ok (.putfield 82, 3) := dk_181 0 82 (dk_at dksX0_giftAt_3 4 rfl rfl)
theorem dX0_giftAt_74 : decode cX0_giftAt 74 = .ok (.iinc 5 1, 3) := dk_132 5 1 (dk_at dksX0_giftAt_3 7 rfl rfl)
theorem dX0_giftAt_77 : decode cX0_giftAt 77 = .ok (.goto (-42), 3) := dk_167 255 214 (dk_at dksX0_giftAt_3 10 rfl rfl)
theorem dX0_giftAt_80 : decode cX0_giftAt 80 = .ok (.aload_n 0, 1) := dk_42 (dk_at dksX0_giftAt_3 13 rfl rfl)
theorem dX0_giftAt_81 : decode cX0_giftAt 81 = .ok (.getfield 82, 3) := dk_180 0 82 (dk_at dksX0_giftAt_3 14 rfl rfl)
theorem dX0_giftAt_84 : decode cX0_giftAt 84 = .ok (.ifCond .le 7, 3) := dk_158 0 7 (dk_at dksX0_giftAt_3 17 rfl rfl)
theorem dX0_giftAt_87 : decode cX0_giftAt 87 = .ok (.iconst (-1), 1) := dk_2 (dk_at dksX0_giftAt_3 20 rfl rfl)
theorem dX0_giftAt_88 : decode cX0_giftAt 88 = .ok (.goto 5, 3) := dk_167 0 5 (dk_at dksX0_giftAt_3 21 rfl rfl)
theorem dX0_giftAt_91 : decode cX0_giftAt 91 = .ok (.iload 4, 2) := dk_21 4 (dk_at dksX0_giftAt_4 0 rfl rfl)
theorem dX0_giftAt_93 : decode cX0_giftAt 93 = .ok (.ireturn, 1) := dk_172 (dk_at dksX0_giftAt_4 2 rfl rfl)
abbrev cX0_isGift : ByteArray := prog_1_method_91_code
def yX0_isGift : MethodName := ⟨RX0, "isGift", "(II)Z"⟩
def dkwX0_isGift_1 : List UInt8 := [4, 167, 0, 4, 3, 172]
abbrev dktX0_isGift_1 : List UInt8 := dkwX0_isGift_1 ++ []
def dkwX0_isGift_0 : List UInt8 := [26, 133, 10, 20, 1, 63, 184, 0, 170, 153, 0, 19, 27, 133, 9, 20, 1, 179, 184, 0, 170, 153, 0, 7]
abbrev dktX0_isGift_0 : List UInt8 := dkwX0_isGift_0 ++ dktX0_isGift_1
theorem dksX0_isGift_0 : cX0_isGift.data.toList.drop 0 = dktX0_isGift_0 := by decide +kernel
theorem dksX0_isGift_1 : cX0_isGift.data.toList.drop 24 = dktX0_isGift_1 := dk_seg dksX0_isGift_0 24 rfl rfl
theorem dX0_isGift_0 : decode cX0_isGift 0 = .ok (.iload_n 0, 1) := dk_26 (dk_at dksX0_isGift_0 0 rfl rfl)
theorem dX0_isGift_1 : decode cX0_isGift 1 = .ok (.i2l, 1) := dk_133 (dk_at dksX0_isGift_0 1 rfl rfl)
theorem dX0_isGift_2 : decode cX0_isGift 2 = .ok (.lconst 1, 1) := dk_10 (dk_at dksX0_isGift_0 2 rfl rfl)
theorem dX0_isGift_3 : decode cX0_isGift 3 = .ok (.ldc2_w 319, 3) := dk_20 1 63 (dk_at dksX0_isGift_0 3 rfl rfl)
theorem dX0_isGift_6 : decode cX0_isGift 6 = .ok (.invokestatic 170, 3) := dk_184 0 170 (dk_at dksX0_isGift_0 6 rfl rfl)
theorem dX0_isGift_9 : decode cX0_isGift 9 = .ok (.ifCond .eq 19, 3) := dk_153 0 19 (dk_at dksX0_isGift_0 9 rfl rfl)
theorem dX0_isGift_12 : decode cX0_isGift 12 = .ok (.iload_n 1, 1) := dk_27 (dk_at dksX0_isGift_0 12 rfl rfl)
theorem dX0_isGift_13 : decode cX0_isGift 13 = .ok (.i2l, 1) := dk_133 (dk_at dksX0_isGift_0 13 rfl rfl)
theorem dX0_isGift_14 : decode cX0_isGift 14 = .ok (.lconst 0, 1) := dk_9 (dk_at dksX0_isGift_0 14 rfl rfl)
theorem dX0_isGift_15 : decode cX0_isGift 15 = .ok (.ldc2_w 435, 3) := dk_20 1 179 (dk_at dksX0_isGift_0 15 rfl rfl)
theorem dX0_isGift_18 : decode cX0_isGift 18 = .ok (.invokestatic 170, 3) := dk_184 0 170 (dk_at dksX0_isGift_0 18 rfl rfl)
theorem dX0_isGift_21 : decode cX0_isGift 21 = .ok (.ifCond .eq 7, 3) := dk_153 0 7 (dk_at dksX0_isGift_0 21 rfl rfl)
theorem dX0_isGift_24 : decode cX0_isGift 24 = .ok (.iconst 1, 1) := dk_4 (dk_at dksX0_isGift_1 0 rfl rfl)
theorem dX0_isGift_25 : decode cX0_isGift 25 = .ok (.goto 4, 3) := dk_167 0 4 (dk_at dksX0_isGift_1 1 rfl rfl)
theorem dX0_isGift_28 : decode cX0_isGift 28 = .ok (.iconst 0, 1) := dk_3 (dk_at dksX0_isGift_1 4 rfl rfl)
theorem dX0_isGift_29 : decode cX0_isGift 29 = .ok (.ireturn, 1) := dk_172 (dk_at dksX0_isGift_1 5 rfl rfl)
abbrev cX0_next : ByteArray := prog_1_method_90_code
def yX0_next : MethodName := ⟨RX0, "next", "(II)I"⟩
def dkwX0_next_0 : List UInt8 := [26, 26, 27, 104, 16, 100, 108, 96, 4, 96, 172]
abbrev dktX0_next_0 : List UInt8 := dkwX0_next_0 ++ []
theorem dksX0_next_0 : cX0_next.data.toList.drop 0 = dktX0_next_0 := by decide +kernel
theorem dX0_next_0 : decode cX0_next 0 = .ok (.iload_n 0, 1) := dk_26 (dk_at dksX0_next_0 0 rfl rfl)
theorem dX0_next_1 : decode cX0_next 1 = .ok (.iload_n 0, 1) := dk_26 (dk_at dksX0_next_0 1 rfl rfl)
theorem dX0_next_2 : decode cX0_next 2 = .ok (.iload_n 1, 1) := dk_27 (dk_at dksX0_next_0 2 rfl rfl)
theorem dX0_next_3 : decode cX0_next 3 = .ok (.imul, 1) := dk_104 (dk_at dksX0_next_0 3 rfl rfl)
theorem dX0_next_4 : decode cX0_next 4 = .ok (.bipush 100, 2) := dk_16 100 (dk_at dksX0_next_0 4 rfl rfl)
theorem dX0_next_6 : decode cX0_next 6 = .ok (.idiv, 1) := dk_108 (dk_at dksX0_next_0 6 rfl rfl)
theorem dX0_next_7 : decode cX0_next 7 = .ok (.iadd, 1) := dk_96 (dk_at dksX0_next_0 7 rfl rfl)
theorem dX0_next_8 : decode cX0_next 8 = .ok (.iconst 1, 1) := dk_4 (dk_at dksX0_next_0 8 rfl rfl)
theorem dX0_next_9 : decode cX0_next 9 = .ok (.iadd, 1) := dk_96 (dk_at dksX0_next_0 9 rfl rfl)
theorem dX0_next_10 : decode cX0_next 10 = .ok (.ireturn, 1) := dk_172 (dk_at dksX0_next_0 10 rfl rfl)
abbrev cX0_ends : ByteArray := prog_1_method_94_code
def yX0_ends : MethodName := ⟨RX0, "ends", "(IIII)I"⟩
def dkwX0_ends_1 : List UInt8 := [181, 0, 82, 42, 180, 0, 82, 158, 0, 7, 2, 167, 0, 12, 42, 27, 28, 29, 21, 4, 182, 1, 192, 172]
abbrev dktX0_ends_1 : List UInt8 := dkwX0_ends_1 ++ []
def dkwX0_ends_0 : List UInt8 := [42, 42, 27, 28, 182, 1, 95, 153, 0, 16, 29, 21, 4, 184, 1, 181, 153, 0, 7, 3, 167, 0, 4, 4]
abbrev dktX0_ends_0 : List UInt8 := dkwX0_ends_0 ++ dktX0_ends_1
theorem dksX0_ends_0 : cX0_ends.data.toList.drop 0 = dktX0_ends_0 := by decide +kernel
theorem dksX0_ends_1 : cX0_ends.data.toList.drop 24 = dktX0_ends_1 := dk_seg dksX0_ends_0 24 rfl rfl
theorem dX0_ends_0 : decode cX0_ends 0 = .ok (.aload_n 0, 1) := dk_42 (dk_at dksX0_ends_0 0 rfl rfl)
theorem dX0_ends_1 : decode cX0_ends 1 = .ok (.aload_n 0, 1) := dk_42 (dk_at dksX0_ends_0 1 rfl rfl)
theorem dX0_ends_2 : decode cX0_ends 2 = .ok (.iload_n 1, 1) := dk_27 (dk_at dksX0_ends_0 2 rfl rfl)
theorem dX0_ends_3 : decode cX0_ends 3 = .ok (.iload_n 2, 1) := dk_28 (dk_at dksX0_ends_0 3 rfl rfl)
theorem dX0_ends_4 : decode cX0_ends 4 = .ok (.invokevirtual 351, 3) := dk_182 1 95 (dk_at dksX0_ends_0 4 rfl rfl)
theorem dX0_ends_7 : decode cX0_ends 7 = .ok (.ifCond .eq 16, 3) := dk_153 0 16 (dk_at dksX0_ends_0 7 rfl rfl)
theorem dX0_ends_10 : decode cX0_ends 10 = .ok (.iload_n 3, 1) := dk_29 (dk_at dksX0_ends_0 10 rfl rfl)
theorem dX0_ends_11 : decode cX0_ends 11 = .ok (.iload 4, 2) := dk_21 4 (dk_at dksX0_ends_0 11 rfl rfl)
theorem dX0_ends_13 : decode cX0_ends 13 = .ok (.invokestatic 437, 3) := dk_184 1 181 (dk_at dksX0_ends_0 13 rfl rfl)
theorem dX0_ends_16 : decode cX0_ends 16 = .ok (.ifCond .eq 7, 3) := dk_153 0 7 (dk_at dksX0_ends_0 16 rfl rfl)
theorem dX0_ends_19 : decode cX0_ends 19 = .ok (.iconst 0, 1) := dk_3 (dk_at dksX0_ends_0 19 rfl rfl)
theorem dX0_ends_20 : decode cX0_ends 20 = .ok (.goto 4, 3) := dk_167 0 4 (dk_at dksX0_ends_0 20 rfl rfl)
theorem dX0_ends_23 : decode cX0_ends 23 = .ok (.iconst 1, 1) := dk_4 (dk_at dksX0_ends_0 23 rfl rfl)
theorem dX0_ends_24 : decode cX0_ends 24 = .ok (.putfield 82, 3) := dk_181 0 82 (dk_at dksX0_ends_1 0 rfl rfl)
theorem dX0_ends_27 : decode cX0_ends 27 = .ok (.aload_n 0, 1) := dk_42 (dk_at dksX0_ends_1 3 rfl rfl)
theorem dX0_ends_28 : decode cX0_ends 28 = .ok (.getfield 82, 3) := dk_180 0 82 (dk_at dksX0_ends_1 4 rfl rfl)
theorem dX0_ends_31 : decode cX0_ends 31 = .ok (.ifCond .le 7, 3) := dk_158 0 7 (dk_at dksX0_ends_1 7 rfl rfl)
theorem dX0_ends_34 : decode cX0_ends 34 = .ok (.iconst (-1), 1) := dk_2 (dk_at dksX0_ends_1 10 rfl rfl)
theorem dX0_ends_35 : decode cX0_ends 35 = .ok (.goto 12, 3) := dk_167 0 12 (dk_at dksX0_ends_1 11 rfl rfl)
theorem dX0_ends_38 : decode cX0_ends 38 = .ok (.aload_n 0, 1) := dk_42 (dk_at dksX0_ends_1 14 rfl rfl)
theorem dX0_ends_39 : decode cX0_ends 39 = .ok (.iload_n 1, 1) := dk_27 (dk_at dksX0_ends_1 15 rfl rfl)
theorem dX0_ends_40 : decode cX0_ends 40 = .ok (.iload_n 2, 1) := dk_28 (dk_at dksX0_ends_1 16 rfl rfl)
theorem dX0_ends_41 : decode cX0_ends 41 = .ok (.iload_n 3, 1) := dk_29 (dk_at dksX0_ends_1 17 rfl rfl)
theorem dX0_ends_42 : decode cX0_ends 42 = .ok (.iload 4, 2) := dk_21 4 (dk_at dksX0_ends_1 18 rfl rfl)
theorem dX0_ends_44 : decode cX0_ends 44 = .ok (.invokevirtual 448, 3) := dk_182 1 192 (dk_at dksX0_ends_1 20 rfl rfl)
theorem dX0_ends_47 : decode cX0_ends 47 = .ok (.ireturn, 1) := dk_172 (dk_at dksX0_ends_1 23 rfl rfl)
abbrev cX0_endOf : ByteArray := prog_1_method_93_code
def yX0_endOf : MethodName := ⟨RX0, "endOf", "(IIII)I"⟩
def dkwX0_endOf_2 : List UInt8 := [181, 1, 189, 21, 5, 21, 4, 184, 1, 186, 54, 5, 132, 6, 1, 167, 255, 206]
abbrev dktX0_endOf_2 : List UInt8 := dkwX0_endOf_2 ++ []
def dkwX0_endOf_1 : List UInt8 := [167, 0, 4, 28, 182, 1, 19, 180, 1, 34, 164, 0, 6, 21, 6, 172, 42, 89, 180, 1, 189, 21, 5, 96]
abbrev dktX0_endOf_1 : List UInt8 := dkwX0_endOf_1 ++ dktX0_endOf_2
def dkwX0_endOf_0 : List UInt8 := [42, 3, 181, 1, 189, 29, 54, 5, 3, 54, 6, 21, 5, 42, 21, 6, 5, 112, 154, 0, 7, 27]
abbrev dktX0_endOf_0 : List UInt8 := dkwX0_endOf_0 ++ dktX0_endOf_1
theorem dksX0_endOf_0 : cX0_endOf.data.toList.drop 0 = dktX0_endOf_0 := by decide +kernel
theorem dksX0_endOf_1 : cX0_endOf.data.toList.drop 22 = dktX0_endOf_1 := dk_seg dksX0_endOf_0 22 rfl rfl
theorem dksX0_endOf_2 : cX0_endOf.data.toList.drop 46 = dktX0_endOf_2 := dk_seg dksX0_endOf_1 24 rfl rfl
theorem dX0_endOf_0 : decode cX0_endOf 0 = .ok (.aload_n 0, 1) := dk_42 (dk_at dksX0_endOf_0 0 rfl rfl)
theorem dX0_endOf_1 : decode cX0_endOf 1 = .ok (.iconst 0, 1) := dk_3 (dk_at dksX0_endOf_0 1 rfl rfl)
theorem dX0_endOf_2 : decode cX0_endOf 2 = .ok (.putfield 445, 3) := dk_181 1 189 (dk_at dksX0_endOf_0 2 rfl rfl)
theorem dX0_endOf_5 : decode cX0_endOf 5 = .ok (.iload_n 3, 1) := dk_29 (dk_at dksX0_endOf_0 5 rfl rfl)
theorem dX0_endOf_6 : decode cX0_endOf 6 = .ok (.istore 5, 2) := dk_54 5 (dk_at dksX0_endOf_0 6 rfl rfl)
theorem dX0_endOf_8 : decode cX0_endOf 8 = .ok (.iconst 0, 1) := dk_3 (dk_at dksX0_endOf_0 8 rfl rfl)
theorem dX0_endOf_9 : decode cX0_endOf 9 = .ok (.istore 6, 2) := dk_54 6 (dk_at dksX0_endOf_0 9 rfl rfl)
theorem dX0_endOf_11 : decode cX0_endOf 11 = .ok (.iload 5, 2) := dk_21 5 (dk_at dksX0_endOf_0 11 rfl rfl)
theorem dX0_endOf_13 : decode cX0_endOf 13 = .ok (.aload_n 0, 1) := dk_42 (dk_at dksX0_endOf_0 13 rfl rfl)
theorem dX0_endOf_14 : decode cX0_endOf 14 = .ok (.iload 6, 2) := dk_21 6 (dk_at dksX0_endOf_0 14 rfl rfl)
theorem dX0_endOf_16 : decode cX0_endOf 16 = .ok (.iconst 2, 1) := dk_5 (dk_at dksX0_endOf_0 16 rfl rfl)
theorem dX0_endOf_17 : decode cX0_endOf 17 = .ok (.irem, 1) := dk_112 (dk_at dksX0_endOf_0 17 rfl rfl)
theorem dX0_endOf_18 : decode cX0_endOf 18 = .ok (.ifCond .ne 7, 3) := dk_154 0 7 (dk_at dksX0_endOf_0 18 rfl rfl)
theorem dX0_endOf_21 : decode cX0_endOf 21 = .ok (.iload_n 1, 1) := dk_27 (dk_at dksX0_endOf_0 21 rfl rfl)
theorem dX0_endOf_22 : decode cX0_endOf 22 = .ok (.goto 4, 3) := dk_167 0 4 (dk_at dksX0_endOf_1 0 rfl rfl)
theorem dX0_endOf_25 : decode cX0_endOf 25 = .ok (.iload_n 2, 1) := dk_28 (dk_at dksX0_endOf_1 3 rfl rfl)
theorem dX0_endOf_26 : decode cX0_endOf 26 = .ok (.invokevirtual 275, 3) := dk_182 1 19 (dk_at dksX0_endOf_1 4 rfl rfl)
theorem dX0_endOf_29 : decode cX0_endOf 29 = .ok (.getfield 290, 3) := dk_180 1 34 (dk_at dksX0_endOf_1 7 rfl rfl)
theorem dX0_endOf_32 : decode cX0_endOf 32 = .ok (.if_icmp .le 6, 3) := dk_164 0 6 (dk_at dksX0_endOf_1 10 rfl rfl)
theorem dX0_endOf_35 : decode cX0_endOf 35 = .ok (.iload 6, 2) := dk_21 6 (dk_at dksX0_endOf_1 13 rfl rfl)
theorem dX0_endOf_37 : decode cX0_endOf 37 = .ok (.ireturn, 1) := dk_172 (dk_at dksX0_endOf_1 15 rfl rfl)
theorem dX0_endOf_38 : decode cX0_endOf 38 = .ok (.aload_n 0, 1) := dk_42 (dk_at dksX0_endOf_1 16 rfl rfl)
theorem dX0_endOf_39 : decode cX0_endOf 39 = .ok (.dup, 1) := dk_89 (dk_at dksX0_endOf_1 17 rfl rfl)
theorem dX0_endOf_40 : decode cX0_endOf 40 = .ok (.getfield 445, 3) := dk_180 1 189 (dk_at dksX0_endOf_1 18 rfl rfl)
theorem dX0_endOf_43 : decode cX0_endOf 43 = .ok (.iload 5, 2) := dk_21 5 (dk_at dksX0_endOf_1 21 rfl rfl)
theorem dX0_endOf_45 : decode cX0_endOf 45 = .ok (.iadd, 1) := dk_96 (dk_at dksX0_endOf_1 23 rfl rfl)
theorem dX0_endOf_46 : decode cX0_endOf 46 = .ok (.putfield 445, 3) := dk_181 1 189 (dk_at dksX0_endOf_2 0 rfl rfl)
theorem dX0_endOf_49 : decode cX0_endOf 49 = .ok (.iload 5, 2) := dk_21 5 (dk_at dksX0_endOf_2 3 rfl rfl)
theorem dX0_endOf_51 : decode cX0_endOf 51 = .ok (.iload 4, 2) := dk_21 4 (dk_at dksX0_endOf_2 5 rfl rfl)
theorem dX0_endOf_53 : decode cX0_endOf 53 = .ok (.invokestatic 442, 3) := dk_184 1 186 (dk_at dksX0_endOf_2 7 rfl rfl)
theorem dX0_endOf_56 : decode cX0_endOf 56 = .ok (.istore 5, 2) := dk_54 5 (dk_at dksX0_endOf_2 10 rfl rfl)
theorem dX0_endOf_58 : decode cX0_endOf 58 = .ok (.iinc 6 1, 3) := dk_132 6 1 (dk_at dksX0_endOf_2 12 rfl rfl)
theorem dX0_endOf_61 : decode cX0_endOf 61 = .ok (.goto (-50), 3) := dk_167 255 206 (dk_at dksX0_endOf_2 15 rfl rfl)
abbrev cX0_wasted : ByteArray := prog_1_method_95_code
def yX0_wasted : MethodName := ⟨RX0, "wasted", "(IIII)I"⟩
def dkwX0_wasted_2 : List UInt8 := [180, 1, 189, 172]
abbrev dktX0_wasted_2 : List UInt8 := dkwX0_wasted_2 ++ []
def dkwX0_wasted_1 : List UInt8 := [181, 0, 82, 42, 180, 0, 82, 158, 0, 5, 2, 172, 42, 27, 28, 29, 21, 4, 182, 1, 192, 87, 42]
abbrev dktX0_wasted_1 : List UInt8 := dkwX0_wasted_1 ++ dktX0_wasted_2
def dkwX0_wasted_0 : List UInt8 := [42, 42, 27, 28, 182, 1, 95, 153, 0, 16, 29, 21, 4, 184, 1, 181, 153, 0, 7, 3, 167, 0, 4, 4]
abbrev dktX0_wasted_0 : List UInt8 := dkwX0_wasted_0 ++ dktX0_wasted_1
theorem dksX0_wasted_0 : cX0_wasted.data.toList.drop 0 = dktX0_wasted_0 := by decide +kernel
theorem dksX0_wasted_1 : cX0_wasted.data.toList.drop 24 = dktX0_wasted_1 := dk_seg dksX0_wasted_0 24 rfl rfl
theorem dksX0_wasted_2 : cX0_wasted.data.toList.drop 47 = dktX0_wasted_2 := dk_seg dksX0_wasted_1 23 rfl rfl
theorem dX0_wasted_0 : decode cX0_wasted 0 = .ok (.aload_n 0, 1) := dk_42 (dk_at dksX0_wasted_0 0 rfl rfl)
theorem dX0_wasted_1 : decode cX0_wasted 1 = .ok (.aload_n 0, 1) := dk_42 (dk_at dksX0_wasted_0 1 rfl rfl)
theorem dX0_wasted_2 : decode cX0_wasted 2 = .ok (.iload_n 1, 1) := dk_27 (dk_at dksX0_wasted_0 2 rfl rfl)
theorem dX0_wasted_3 : decode cX0_wasted 3 = .ok (.iload_n 2, 1) := dk_28 (dk_at dksX0_wasted_0 3 rfl rfl)
theorem dX0_wasted_4 : decode cX0_wasted 4 = .ok (.invokevirtual 351, 3) := dk_182 1 95 (dk_at dksX0_wasted_0 4 rfl rfl)
theorem dX0_wasted_7 : decode cX0_wasted 7 = .ok (.ifCond .eq 16, 3) := dk_153 0 16 (dk_at dksX0_wasted_0 7 rfl rfl)
theorem dX0_wasted_10 : decode cX0_wasted 10 = .ok (.iload_n 3, 1) := dk_29 (dk_at dksX0_wasted_0 10 rfl rfl)
theorem dX0_wasted_11 : decode cX0_wasted 11 = .ok (.iload 4, 2) := dk_21 4 (dk_at dksX0_wasted_0 11 rfl rfl)
theorem dX0_wasted_13 : decode cX0_wasted 13 = .ok (.invokestatic 437, 3) := dk_184 1 181 (dk_at dksX0_wasted_0 13 rfl rfl)
theorem dX0_wasted_16 : decode cX0_wasted 16 = .ok (.ifCond .eq 7, 3) := dk_153 0 7 (dk_at dksX0_wasted_0 16 rfl rfl)
theorem dX0_wasted_19 : decode cX0_wasted 19 = .ok (.iconst 0, 1) := dk_3 (dk_at dksX0_wasted_0 19 rfl rfl)
theorem dX0_wasted_20 : decode cX0_wasted 20 = .ok (.goto 4, 3) := dk_167 0 4 (dk_at dksX0_wasted_0 20 rfl rfl)
theorem dX0_wasted_23 : decode cX0_wasted 23 = .ok (.iconst 1, 1) := dk_4 (dk_at dksX0_wasted_0 23 rfl rfl)
theorem dX0_wasted_24 : decode cX0_wasted 24 = .ok (.putfield 82, 3) := dk_181 0 82 (dk_at dksX0_wasted_1 0 rfl rfl)
theorem dX0_wasted_27 : decode cX0_wasted 27 = .ok (.aload_n 0, 1) := dk_42 (dk_at dksX0_wasted_1 3 rfl rfl)
theorem dX0_wasted_28 : decode cX0_wasted 28 = .ok (.getfield 82, 3) := dk_180 0 82 (dk_at dksX0_wasted_1 4 rfl rfl)
theorem dX0_wasted_31 : decode cX0_wasted 31 = .ok (.ifCond .le 5, 3) := dk_158 0 5 (dk_at dksX0_wasted_1 7 rfl rfl)
theorem dX0_wasted_34 : decode cX0_wasted 34 = .ok (.iconst (-1), 1) := dk_2 (dk_at dksX0_wasted_1 10 rfl rfl)
theorem dX0_wasted_35 : decode cX0_wasted 35 = .ok (.ireturn, 1) := dk_172 (dk_at dksX0_wasted_1 11 rfl rfl)
theorem dX0_wasted_36 : decode cX0_wasted 36 = .ok (.aload_n 0, 1) := dk_42 (dk_at dksX0_wasted_1 12 rfl rfl)
theorem dX0_wasted_37 : decode cX0_wasted 37 = .ok (.iload_n 1, 1) := dk_27 (dk_at dksX0_wasted_1 13 rfl rfl)
theorem dX0_wasted_38 : decode cX0_wasted 38 = .ok (.iload_n 2, 1) := dk_28 (dk_at dksX0_wasted_1 14 rfl rfl)
theorem dX0_wasted_39 : decode cX0_wasted 39 = .ok (.iload_n 3, 1) := dk_29 (dk_at dksX0_wasted_1 15 rfl rfl)
theorem dX0_wasted_40 : decode cX0_wasted 40 = .ok (.iload 4, 2) := dk_21 4 (dk_at dksX0_wasted_1 16 rfl rfl)
theorem dX0_wasted_42 : decode cX0_wasted 42 = .ok (.invokevirtual 448, 3) := dk_182 1 192 (dk_at dksX0_wasted_1 18 rfl rfl)
theorem dX0_wasted_45 : decode cX0_wasted 45 = .ok (.pop, 1) := dk_87 (dk_at dksX0_wasted_1 21 rfl rfl)
theorem dX0_wasted_46 : decode cX0_wasted 46 = .ok (.aload_n 0, 1) := dk_42 (dk_at dksX0_wasted_1 22 rfl rfl)
theorem dX0_wasted_47 : decode cX0_wasted 47 = .ok (.getfield 445, 3) := dk_180 1 189 (dk_at dksX0_wasted_2 0 rfl rfl)
theorem dX0_wasted_50 : decode cX0_wasted 50 = .ok (.ireturn, 1) := dk_172 (dk_at dksX0_wasted_2 3 rfl rfl)
abbrev cX0_gift : ByteArray := prog_1_method_96_code
def yX0_gift : MethodName := ⟨RX0, "gift", "(III)I"⟩
def dkwX0_gift_2 : List UInt8 := [29, 182, 1, 196, 172]
abbrev dktX0_gift_2 : List UInt8 := dkwX0_gift_2 ++ []
def dkwX0_gift_1 : List UInt8 := [167, 0, 4, 4, 181, 0, 82, 42, 180, 0, 82, 158, 0, 7, 2, 167, 0, 13, 42, 182, 0, 163, 27, 28]
abbrev dktX0_gift_1 : List UInt8 := dkwX0_gift_1 ++ dktX0_gift_2
def dkwX0_gift_0 : List UInt8 := [42, 42, 27, 28, 182, 1, 95, 153, 0, 19, 29, 133, 10, 20, 1, 85, 184, 0, 170, 153, 0, 7, 3]
abbrev dktX0_gift_0 : List UInt8 := dkwX0_gift_0 ++ dktX0_gift_1
theorem dksX0_gift_0 : cX0_gift.data.toList.drop 0 = dktX0_gift_0 := by decide +kernel
theorem dksX0_gift_1 : cX0_gift.data.toList.drop 23 = dktX0_gift_1 := dk_seg dksX0_gift_0 23 rfl rfl
theorem dksX0_gift_2 : cX0_gift.data.toList.drop 47 = dktX0_gift_2 := dk_seg dksX0_gift_1 24 rfl rfl
theorem dX0_gift_0 : decode cX0_gift 0 = .ok (.aload_n 0, 1) := dk_42 (dk_at dksX0_gift_0 0 rfl rfl)
theorem dX0_gift_1 : decode cX0_gift 1 = .ok (.aload_n 0, 1) := dk_42 (dk_at dksX0_gift_0 1 rfl rfl)
theorem dX0_gift_2 : decode cX0_gift 2 = .ok (.iload_n 1, 1) := dk_27 (dk_at dksX0_gift_0 2 rfl rfl)
theorem dX0_gift_3 : decode cX0_gift 3 = .ok (.iload_n 2, 1) := dk_28 (dk_at dksX0_gift_0 3 rfl rfl)
theorem dX0_gift_4 : decode cX0_gift 4 = .ok (.invokevirtual 351, 3) := dk_182 1 95 (dk_at dksX0_gift_0 4 rfl rfl)
theorem dX0_gift_7 : decode cX0_gift 7 = .ok (.ifCond .eq 19, 3) := dk_153 0 19 (dk_at dksX0_gift_0 7 rfl rfl)
theorem dX0_gift_10 : decode cX0_gift 10 = .ok (.iload_n 3, 1) := dk_29 (dk_at dksX0_gift_0 10 rfl rfl)
theorem dX0_gift_11 : decode cX0_gift 11 = .ok (.i2l, 1) := dk_133 (dk_at dksX0_gift_0 11 rfl rfl)
theorem dX0_gift_12 : decode cX0_gift 12 = .ok (.lconst 1, 1) := dk_10 (dk_at dksX0_gift_0 12 rfl rfl)
theorem dX0_gift_13 : decode cX0_gift 13 = .ok (.ldc2_w 341, 3) := dk_20 1 85 (dk_at dksX0_gift_0 13 rfl rfl)
theorem dX0_gift_16 : decode cX0_gift 16 = .ok (.invokestatic 170, 3) := dk_184 0 170 (dk_at dksX0_gift_0 16 rfl rfl)
theorem dX0_gift_19 : decode cX0_gift 19 = .ok (.ifCond .eq 7, 3) := dk_153 0 7 (dk_at dksX0_gift_0 19 rfl rfl)
theorem dX0_gift_22 : decode cX0_gift 22 = .ok (.iconst 0, 1) := dk_3 (dk_at dksX0_gift_0 22 rfl rfl)
theorem dX0_gift_23 : decode cX0_gift 23 = .ok (.goto 4, 3) := dk_167 0 4 (dk_at dksX0_gift_1 0 rfl rfl)
theorem dX0_gift_26 : decode cX0_gift 26 = .ok (.iconst 1, 1) := dk_4 (dk_at dksX0_gift_1 3 rfl rfl)
theorem dX0_gift_27 : decode cX0_gift 27 = .ok (.putfield 82, 3) := dk_181 0 82 (dk_at dksX0_gift_1 4 rfl rfl)
theorem dX0_gift_30 : decode cX0_gift 30 = .ok (.aload_n 0, 1) := dk_42 (dk_at dksX0_gift_1 7 rfl rfl)
theorem dX0_gift_31 : decode cX0_gift 31 = .ok (.getfield 82, 3) := dk_180 0 82 (dk_at dksX0_gift_1 8 rfl rfl)
theorem dX0_gift_34 : decode cX0_gift 34 = .ok (.ifCond .le 7, 3) := dk_158 0 7 (dk_at dksX0_gift_1 11 rfl rfl)
theorem dX0_gift_37 : decode cX0_gift 37 = .ok (.iconst (-1), 1) := dk_2 (dk_at dksX0_gift_1 14 rfl rfl)
theorem dX0_gift_38 : decode cX0_gift 38 = .ok (.goto 13, 3) := dk_167 0 13 (dk_at dksX0_gift_1 15 rfl rfl)
theorem dX0_gift_41 : decode cX0_gift 41 = .ok (.aload_n 0, 1) := dk_42 (dk_at dksX0_gift_1 18 rfl rfl)
theorem dX0_gift_42 : decode cX0_gift 42 = .ok (.invokevirtual 163, 3) := dk_182 0 163 (dk_at dksX0_gift_1 19 rfl rfl)
theorem dX0_gift_45 : decode cX0_gift 45 = .ok (.iload_n 1, 1) := dk_27 (dk_at dksX0_gift_1 22 rfl rfl)
theorem dX0_gift_46 : decode cX0_gift 46 = .ok (.iload_n 2, 1) := dk_28 (dk_at dksX0_gift_1 23 rfl rfl)
theorem dX0_gift_47 : decode cX0_gift 47 = .ok (.iload_n 3, 1) := dk_29 (dk_at dksX0_gift_2 0 rfl rfl)
theorem dX0_gift_48 : decode cX0_gift 48 = .ok (.invokevirtual 452, 3) := dk_182 1 196 (dk_at dksX0_gift_2 1 rfl rfl)
theorem dX0_gift_51 : decode cX0_gift 51 = .ok (.ireturn, 1) := dk_172 (dk_at dksX0_gift_2 4 rfl rfl)
abbrev cX0_receipts : ByteArray := prog_1_method_97_code
def yX0_receipts : MethodName := ⟨RX0, "receipts", "(IIII)I"⟩
def dkwX0_receipts_14 : List UInt8 := [172]
abbrev dktX0_receipts_14 : List UInt8 := dkwX0_receipts_14 ++ []
def dkwX0_receipts_13 : List UInt8 := [180, 0, 66, 21, 5, 46, 133, 182, 1, 202, 87, 132, 5, 1, 167, 255, 224, 42, 182, 0, 163, 180, 0, 167]
abbrev dktX0_receipts_13 : List UInt8 := dkwX0_receipts_13 ++ dktX0_receipts_14
def dkwX0_receipts_12 : List UInt8 := [172, 3, 54, 5, 21, 5, 42, 182, 0, 163, 180, 0, 167, 162, 0, 26, 42, 21, 4, 21, 5, 42]
abbrev dktX0_receipts_12 : List UInt8 := dkwX0_receipts_12 ++ dktX0_receipts_13
def dkwX0_receipts_11 : List UInt8 := [79, 132, 8, 1, 167, 255, 194, 132, 6, 1, 167, 255, 143, 167, 0, 12, 58, 5, 42, 25, 5, 182, 0, 140]
abbrev dktX0_receipts_11 : List UInt8 := dkwX0_receipts_11 ++ dktX0_receipts_12
def dkwX0_receipts_10 : List UInt8 := [167, 0, 25, 42, 180, 0, 66, 21, 8, 92, 46, 29, 100, 79, 42, 180, 0, 66, 21, 7, 92, 46, 29, 96]
abbrev dktX0_receipts_10 : List UInt8 := dkwX0_receipts_10 ++ dktX0_receipts_11
def dkwX0_receipts_9 : List UInt8 := [21, 8, 21, 7, 159, 0, 43, 42, 182, 0, 163, 182, 0, 249, 21, 8, 184, 1, 122, 154, 0, 6]
abbrev dktX0_receipts_9 : List UInt8 := dkwX0_receipts_9 ++ dktX0_receipts_10
def dkwX0_receipts_8 : List UInt8 := [21, 6, 184, 0, 134, 136, 54, 7, 3, 54, 8, 21, 8, 42, 182, 0, 163, 180, 0, 167, 162, 0, 56]
abbrev dktX0_receipts_8 : List UInt8 := dkwX0_receipts_8 ++ dktX0_receipts_9
def dkwX0_receipts_7 : List UInt8 := [184, 0, 134, 9, 42, 182, 0, 163, 180, 0, 167, 4, 100, 133, 184, 0, 170, 8, 182, 0, 107, 25, 5]
abbrev dktX0_receipts_7 : List UInt8 := dkwX0_receipts_7 ++ dktX0_receipts_8
def dkwX0_receipts_6 : List UInt8 := [3, 79, 132, 6, 1, 167, 255, 233, 3, 54, 6, 21, 6, 28, 162, 0, 113, 42, 25, 5, 21, 6]
abbrev dktX0_receipts_6 : List UInt8 := dkwX0_receipts_6 ++ dktX0_receipts_7
def dkwX0_receipts_5 : List UInt8 := [182, 0, 107, 3, 54, 6, 21, 6, 42, 182, 0, 163, 180, 0, 167, 162, 0, 17, 42, 180, 0, 66, 21, 6]
abbrev dktX0_receipts_5 : List UInt8 := dkwX0_receipts_5 ++ dktX0_receipts_6
def dkwX0_receipts_4 : List UInt8 := [161, 0, 7, 4, 167, 0, 4, 3, 25, 5, 184, 1, 199, 28, 161, 0, 7, 4, 167, 0, 4, 3, 126, 6]
abbrev dktX0_receipts_4 : List UInt8 := dkwX0_receipts_4 ++ dktX0_receipts_5
def dkwX0_receipts_3 : List UInt8 := [182, 0, 124, 58, 5, 42, 42, 21, 4, 182, 0, 124, 184, 1, 199, 42, 182, 0, 163, 180, 0, 167]
abbrev dktX0_receipts_3 : List UInt8 := dkwX0_receipts_3 ++ dktX0_receipts_4
def dkwX0_receipts_2 : List UInt8 := [155, 0, 17, 42, 182, 0, 163, 180, 0, 167, 158, 0, 7, 4, 167, 0, 4, 3, 4, 182, 0, 107, 42, 27]
abbrev dktX0_receipts_2 : List UInt8 := dkwX0_receipts_2 ++ dktX0_receipts_3
def dkwX0_receipts_1 : List UInt8 := [20, 0, 180, 184, 0, 170, 153, 0, 33, 29, 133, 10, 20, 1, 63, 184, 0, 170, 153, 0, 21, 28]
abbrev dktX0_receipts_1 : List UInt8 := dkwX0_receipts_1 ++ dktX0_receipts_2
def dkwX0_receipts_0 : List UInt8 := [42, 3, 181, 0, 82, 42, 27, 133, 9, 20, 0, 180, 184, 0, 170, 153, 0, 46, 21, 4, 133, 9]
abbrev dktX0_receipts_0 : List UInt8 := dkwX0_receipts_0 ++ dktX0_receipts_1
theorem dksX0_receipts_0 : cX0_receipts.data.toList.drop 0 = dktX0_receipts_0 := by decide +kernel
theorem dksX0_receipts_1 : cX0_receipts.data.toList.drop 22 = dktX0_receipts_1 := dk_seg dksX0_receipts_0 22 rfl rfl
theorem dksX0_receipts_2 : cX0_receipts.data.toList.drop 44 = dktX0_receipts_2 := dk_seg dksX0_receipts_1 22 rfl rfl
theorem dksX0_receipts_3 : cX0_receipts.data.toList.drop 68 = dktX0_receipts_3 := dk_seg dksX0_receipts_2 24 rfl rfl
theorem dksX0_receipts_4 : cX0_receipts.data.toList.drop 90 = dktX0_receipts_4 := dk_seg dksX0_receipts_3 22 rfl rfl
theorem dksX0_receipts_5 : cX0_receipts.data.toList.drop 114 = dktX0_receipts_5 := dk_seg dksX0_receipts_4 24 rfl rfl
theorem dksX0_receipts_6 : cX0_receipts.data.toList.drop 138 = dktX0_receipts_6 := dk_seg dksX0_receipts_5 24 rfl rfl
theorem dksX0_receipts_7 : cX0_receipts.data.toList.drop 160 = dktX0_receipts_7 := dk_seg dksX0_receipts_6 22 rfl rfl
theorem dksX0_receipts_8 : cX0_receipts.data.toList.drop 183 = dktX0_receipts_8 := dk_seg dksX0_receipts_7 23 rfl rfl
theorem dksX0_receipts_9 : cX0_receipts.data.toList.drop 206 = dktX0_receipts_9 := dk_seg dksX0_receipts_8 23 rfl rfl
theorem dksX0_receipts_10 : cX0_receipts.data.toList.drop 228 = dktX0_receipts_10 := dk_seg dksX0_receipts_9 22 rfl rfl
theorem dksX0_receipts_11 : cX0_receipts.data.toList.drop 252 = dktX0_receipts_11 := dk_seg dksX0_receipts_10 24 rfl rfl
theorem dksX0_receipts_12 : cX0_receipts.data.toList.drop 276 = dktX0_receipts_12 := dk_seg dksX0_receipts_11 24 rfl rfl
theorem dksX0_receipts_13 : cX0_receipts.data.toList.drop 298 = dktX0_receipts_13 := dk_seg dksX0_receipts_12 22 rfl rfl
theorem dksX0_receipts_14 : cX0_receipts.data.toList.drop 322 = dktX0_receipts_14 := dk_seg dksX0_receipts_13 24 rfl rfl
theorem dX0_receipts_0 : decode cX0_receipts 0 = .ok (.aload_n 0, 1) := dk_42 (dk_at dksX0_receipts_0 0 rfl rfl)
theorem dX0_receipts_1 : decode cX0_receipts 1 = .ok (.iconst 0, 1) := dk_3 (dk_at dksX0_receipts_0 1 rfl rfl)
theorem dX0_receipts_2 : decode cX0_receipts 2 = .ok (.putfield 82, 3) := dk_181 0 82 (dk_at dksX0_receipts_0 2 rfl rfl)
theorem dX0_receipts_5 : decode cX0_receipts 5 = .ok (.aload_n 0, 1) := dk_42 (dk_at dksX0_receipts_0 5 rfl rfl)
theorem dX0_receipts_6 : decode cX0_receipts 6 = .ok (.iload_n 1, 1) := dk_27 (dk_at dksX0_receipts_0 6 rfl rfl)
theorem dX0_receipts_7 : decode cX0_receipts 7 = .ok (.i2l, 1) := dk_133 (dk_at dksX0_receipts_0 7 rfl rfl)
theorem dX0_receipts_8 : decode cX0_receipts 8 = .ok (.lconst 0, 1) := dk_9 (dk_at dksX0_receipts_0 8 rfl rfl)
theorem dX0_receipts_9 : decode cX0_receipts 9 = .ok (.ldc2_w 180, 3) := dk_20 0 180 (dk_at dksX0_receipts_0 9 rfl rfl)
theorem dX0_receipts_12 : decode cX0_receipts 12 = .ok (.invokestatic 170, 3) := dk_184 0 170 (dk_at dksX0_receipts_0 12 rfl rfl)
theorem dX0_receipts_15 : decode cX0_receipts 15 = .ok (.ifCond .eq 46, 3) := dk_153 0 46 (dk_at dksX0_receipts_0 15 rfl rfl)
theorem dX0_receipts_18 : decode cX0_receipts 18 = .ok (.iload 4, 2) := dk_21 4 (dk_at dksX0_receipts_0 18 rfl rfl)
theorem dX0_receipts_20 : decode cX0_receipts 20 = .ok (.i2l, 1) := dk_133 (dk_at dksX0_receipts_0 20 rfl rfl)
theorem dX0_receipts_21 : decode cX0_receipts 21 = .ok (.lconst 0, 1) := dk_9 (dk_at dksX0_receipts_0 21 rfl rfl)
theorem dX0_receipts_22 : decode cX0_receipts 22 = .ok (.ldc2_w 180, 3) := dk_20 0 180 (dk_at dksX0_receipts_1 0 rfl rfl)
theorem dX0_receipts_25 : decode cX0_receipts 25 = .ok (.invokestatic 170, 3) := dk_184 0 170 (dk_at dksX0_receipts_1 3 rfl rfl)
theorem dX0_receipts_28 : decode cX0_receipts 28 = .ok (.ifCond .eq 33, 3) := dk_153 0 33 (dk_at dksX0_receipts_1 6 rfl rfl)
theorem dX0_receipts_31 : decode cX0_receipts 31 = .ok (.iload_n 3, 1) := dk_29 (dk_at dksX0_receipts_1 9 rfl rfl)
theorem dX0_receipts_32 : decode cX0_receipts 32 = .ok (.i2l, 1) := dk_133 (dk_at dksX0_receipts_1 10 rfl rfl)
theorem dX0_receipts_33 : decode cX0_receipts 33 = .ok (.lconst 1, 1) := dk_10 (dk_at dksX0_receipts_1 11 rfl rfl)
theorem dX0_receipts_34 : decode cX0_receipts 34 = .ok (.ldc2_w 319, 3) := dk_20 1 63 (dk_at dksX0_receipts_1 12 rfl rfl)
theorem dX0_receipts_37 : decode cX0_receipts 37 = .ok (.invokestatic 170, 3) := dk_184 0 170 (dk_at dksX0_receipts_1 15 rfl rfl)
theorem dX0_receipts_40 : decode cX0_receipts 40 = .ok (.ifCond .eq 21, 3) := dk_153 0 21 (dk_at dksX0_receipts_1 18 rfl rfl)
theorem dX0_receipts_43 : decode cX0_receipts 43 = .ok (.iload_n 2, 1) := dk_28 (dk_at dksX0_receipts_1 21 rfl rfl)
theorem dX0_receipts_44 : decode cX0_receipts 44 = .ok (.ifCond .lt 17, 3) := dk_155 0 17 (dk_at dksX0_receipts_2 0 rfl rfl)
theorem dX0_receipts_47 : decode cX0_receipts 47 = .ok (.aload_n 0, 1) := dk_42 (dk_at dksX0_receipts_2 3 rfl rfl)
theorem dX0_receipts_48 : decode cX0_receipts 48 = .ok (.invokevirtual 163, 3) := dk_182 0 163 (dk_at dksX0_receipts_2 4 rfl rfl)
theorem dX0_receipts_51 : decode cX0_receipts 51 = .ok (.getfield 167, 3) := dk_180 0 167 (dk_at dksX0_receipts_2 7 rfl rfl)
theorem dX0_receipts_54 : decode cX0_receipts 54 = .ok (.ifCond .le 7, 3) := dk_158 0 7 (dk_at dksX0_receipts_2 10 rfl rfl)
theorem dX0_receipts_57 : decode cX0_receipts 57 = .ok (.iconst 1, 1) := dk_4 (dk_at dksX0_receipts_2 13 rfl rfl)
theorem dX0_receipts_58 : decode cX0_receipts 58 = .ok (.goto 4, 3) := dk_167 0 4 (dk_at dksX0_receipts_2 14 rfl rfl)
theorem dX0_receipts_61 : decode cX0_receipts 61 = .ok (.iconst 0, 1) := dk_3 (dk_at dksX0_receipts_2 17 rfl rfl)
theorem dX0_receipts_62 : decode cX0_receipts 62 = .ok (.iconst 1, 1) := dk_4 (dk_at dksX0_receipts_2 18 rfl rfl)
theorem dX0_receipts_63 : decode cX0_receipts 63 = .ok (.invokevirtual 107, 3) := dk_182 0 107 (dk_at dksX0_receipts_2 19 rfl rfl)
theorem dX0_receipts_66 : decode cX0_receipts 66 = .ok (.aload_n 0, 1) := dk_42 (dk_at dksX0_receipts_2 22 rfl rfl)
theorem dX0_receipts_67 : decode cX0_receipts 67 = .ok (.iload_n 1, 1) := dk_27 (dk_at dksX0_receipts_2 23 rfl rfl)
theorem dX0_receipts_68 : decode cX0_receipts 68 = .ok (.invokevirtual 124, 3) := dk_182 0 124 (dk_at dksX0_receipts_3 0 rfl rfl)
theorem dX0_receipts_71 : decode cX0_receipts 71 = .ok (.astore 5, 2) := dk_58 5 (dk_at dksX0_receipts_3 3 rfl rfl)
theorem dX0_receipts_73 : decode cX0_receipts 73 = .ok (.aload_n 0, 1) := dk_42 (dk_at dksX0_receipts_3 5 rfl rfl)
theorem dX0_receipts_74 : decode cX0_receipts 74 = .ok (.aload_n 0, 1) := dk_42 (dk_at dksX0_receipts_3 6 rfl rfl)
theorem dX0_receipts_75 : decode cX0_receipts 75 = .ok (.iload 4, 2) := dk_21 4 (dk_at dksX0_receipts_3 7 rfl rfl)
theorem dX0_receipts_77 : decode cX0_receipts 77 = .ok (.invokevirtual 124, 3) := dk_182 0 124 (dk_at dksX0_receipts_3 9 rfl rfl)
theorem dX0_receipts_80 : decode cX0_receipts 80 = .ok (.invokestatic 455, 3) := dk_184 1 199 (dk_at dksX0_receipts_3 12 rfl rfl)
theorem dX0_receipts_83 : decode cX0_receipts 83 = .ok (.aload_n 0, 1) := dk_42 (dk_at dksX0_receipts_3 15 rfl rfl)
theorem dX0_receipts_84 : decode cX0_receipts 84 = .ok (.invokevirtual 163, 3) := dk_182 0 163 (dk_at dksX0_receipts_3 16 rfl rfl)
theorem dX0_receipts_87 : decode cX0_receipts 87 = .ok (.getfield 167, 3) := dk_180 0 167 (dk_at dksX0_receipts_3 19 rfl rfl)
theorem dX0_receipts_90 : decode cX0_receipts 90 = .ok (.if_icmp .lt 7, 3) := dk_161 0 7 (dk_at dksX0_receipts_4 0 rfl rfl)
theorem dX0_receipts_93 : decode cX0_receipts 93 = .ok (.iconst 1, 1) := dk_4 (dk_at dksX0_receipts_4 3 rfl rfl)
theorem dX0_receipts_94 : decode cX0_receipts 94 = .ok (.goto 4, 3) := dk_167 0 4 (dk_at dksX0_receipts_4 4 rfl rfl)
theorem dX0_receipts_97 : decode cX0_receipts 97 = .ok (.iconst 0, 1) := dk_3 (dk_at dksX0_receipts_4 7 rfl rfl)
theorem dX0_receipts_98 : decode cX0_receipts 98 = .ok (.aload 5, 2) := dk_25 5 (dk_at dksX0_receipts_4 8 rfl rfl)
theorem dX0_receipts_100 : decode cX0_receipts 100 = .ok (.invokestatic 455, 3) := dk_184 1 199 (dk_at dksX0_receipts_4 10 rfl rfl)
theorem dX0_receipts_103 : decode cX0_receipts 103 = .ok (.iload_n 2, 1) := dk_28 (dk_at dksX0_receipts_4 13 rfl rfl)
theorem dX0_receipts_104 : decode cX0_receipts 104 = .ok (.if_icmp .lt 7, 3) := dk_161 0 7 (dk_at dksX0_receipts_4 14 rfl rfl)
theorem dX0_receipts_107 : decode cX0_receipts 107 = .ok (.iconst 1, 1) := dk_4 (dk_at dksX0_receipts_4 17 rfl rfl)
theorem dX0_receipts_108 : decode cX0_receipts 108 = .ok (.goto 4, 3) := dk_167 0 4 (dk_at dksX0_receipts_4 18 rfl rfl)
theorem dX0_receipts_111 : decode cX0_receipts 111 = .ok (.iconst 0, 1) := dk_3 (dk_at dksX0_receipts_4 21 rfl rfl)
theorem dX0_receipts_112 : decode cX0_receipts 112 = .ok (.iand, 1) := dk_126 (dk_at dksX0_receipts_4 22 rfl rfl)
theorem dX0_receipts_113 : decode cX0_receipts 113 = .ok (.iconst 3, 1) := dk_6 (dk_at dksX0_receipts_4 23 rfl rfl)
theorem dX0_receipts_114 : decode cX0_receipts 114 = .ok (.invokevirtual 107, 3) := dk_182 0 107 (dk_at dksX0_receipts_5 0 rfl rfl)
theorem dX0_receipts_117 : decode cX0_receipts 117 = .ok (.iconst 0, 1) := dk_3 (dk_at dksX0_receipts_5 3 rfl rfl)
theorem dX0_receipts_118 : decode cX0_receipts 118 = .ok (.istore 6, 2) := dk_54 6 (dk_at dksX0_receipts_5 4 rfl rfl)
theorem dX0_receipts_120 : decode cX0_receipts 120 = .ok (.iload 6, 2) := dk_21 6 (dk_at dksX0_receipts_5 6 rfl rfl)
theorem dX0_receipts_122 : decode cX0_receipts 122 = .ok (.aload_n 0, 1) := dk_42 (dk_at dksX0_receipts_5 8 rfl rfl)
theorem dX0_receipts_123 : decode cX0_receipts 123 = .ok (.invokevirtual 163, 3) := dk_182 0 163 (dk_at dksX0_receipts_5 9 rfl rfl)
theorem dX0_receipts_126 : decode cX0_receipts 126 = .ok (.getfield 167, 3) := dk_180 0 167 (dk_at dksX0_receipts_5 12 rfl rfl)
theorem dX0_receipts_129 : decode cX0_receipts 129 = .ok (.if_icmp .ge 17, 3) := dk_162 0 17 (dk_at dksX0_receipts_5 15 rfl rfl)
theorem dX0_receipts_132 : decode cX0_receipts 132 = .ok (.aload_n 0, 1) := dk_42 (dk_at dksX0_receipts_5 18 rfl rfl)
theorem dX0_receipts_133 : decode cX0_receipts 133 = .ok (.getfield 66, 3) := dk_180 0 66 (dk_at dksX0_receipts_5 19 rfl rfl)
theorem dX0_receipts_136 : decode cX0_receipts 136 = .ok (.iload 6, 2) := dk_21 6 (dk_at dksX0_receipts_5 22 rfl rfl)
theorem dX0_receipts_138 : decode cX0_receipts 138 = .ok (.iconst 0, 1) := dk_3 (dk_at dksX0_receipts_6 0 rfl rfl)
theorem dX0_receipts_139 : decode cX0_receipts 139 = .ok (.iastore, 1) := dk_79 (dk_at dksX0_receipts_6 1 rfl rfl)
theorem dX0_receipts_140 : decode cX0_receipts 140 = .ok (.iinc 6 1, 3) := dk_132 6 1 (dk_at dksX0_receipts_6 2 rfl rfl)
theorem dX0_receipts_143 : decode cX0_receipts 143 = .ok (.goto (-23), 3) := dk_167 255 233 (dk_at dksX0_receipts_6 5 rfl rfl)
theorem dX0_receipts_146 : decode cX0_receipts 146 = .ok (.iconst 0, 1) := dk_3 (dk_at dksX0_receipts_6 8 rfl rfl)
theorem dX0_receipts_147 : decode cX0_receipts 147 = .ok (.istore 6, 2) := dk_54 6 (dk_at dksX0_receipts_6 9 rfl rfl)
theorem dX0_receipts_149 : decode cX0_receipts 149 = .ok (.iload 6, 2) := dk_21 6 (dk_at dksX0_receipts_6 11 rfl rfl)
theorem dX0_receipts_151 : decode cX0_receipts 151 = .ok (.iload_n 2, 1) := dk_28 (dk_at dksX0_receipts_6 13 rfl rfl)
theorem dX0_receipts_152 : decode cX0_receipts 152 = .ok (.if_icmp .ge 113, 3) := dk_162 0 113 (dk_at dksX0_receipts_6 14 rfl rfl)
theorem dX0_receipts_155 : decode cX0_receipts 155 = .ok (.aload_n 0, 1) := dk_42 (dk_at dksX0_receipts_6 17 rfl rfl)
theorem dX0_receipts_156 : decode cX0_receipts 156 = .ok (.aload 5, 2) := dk_25 5 (dk_at dksX0_receipts_6 18 rfl rfl)
theorem dX0_receipts_158 : decode cX0_receipts 158 = .ok (.iload 6, 2) := dk_21 6 (dk_at dksX0_receipts_6 20 rfl rfl)
theorem dX0_receipts_160 : decode cX0_receipts 160 = .ok (.invokestatic 134, 3) := dk_184 0 134 (dk_at dksX0_receipts_7 0 rfl rfl)
theorem dX0_receipts_163 : decode cX0_receipts 163 = .ok (.lconst 0, 1) := dk_9 (dk_at dksX0_receipts_7 3 rfl rfl)
theorem dX0_receipts_164 : decode cX0_receipts 164 = .ok (.aload_n 0, 1) := dk_42 (dk_at dksX0_receipts_7 4 rfl rfl)
theorem dX0_receipts_165 : decode cX0_receipts 165 = .ok (.invokevirtual 163, 3) := dk_182 0 163 (dk_at dksX0_receipts_7 5 rfl rfl)
theorem dX0_receipts_168 : decode cX0_receipts 168 = .ok (.getfield 167, 3) := dk_180 0 167 (dk_at dksX0_receipts_7 8 rfl rfl)
theorem dX0_receipts_171 : decode cX0_receipts 171 = .ok (.iconst 1, 1) := dk_4 (dk_at dksX0_receipts_7 11 rfl rfl)
theorem dX0_receipts_172 : decode cX0_receipts 172 = .ok (.isub, 1) := dk_100 (dk_at dksX0_receipts_7 12 rfl rfl)
theorem dX0_receipts_173 : decode cX0_receipts 173 = .ok (.i2l, 1) := dk_133 (dk_at dksX0_receipts_7 13 rfl rfl)
theorem dX0_receipts_174 : decode cX0_receipts 174 = .ok (.invokestatic 170, 3) := dk_184 0 170 (dk_at dksX0_receipts_7 14 rfl rfl)
theorem dX0_receipts_177 : decode cX0_receipts 177 = .ok (.iconst 5, 1) := dk_8 (dk_at dksX0_receipts_7 17 rfl rfl)
theorem dX0_receipts_178 : decode cX0_receipts 178 = .ok (.invokevirtual 107, 3) := dk_182 0 107 (dk_at dksX0_receipts_7 18 rfl rfl)
theorem dX0_receipts_181 : decode cX0_receipts 181 = .ok (.aload 5, 2) := dk_25 5 (dk_at dksX0_receipts_7 21 rfl rfl)
theorem dX0_receipts_183 : decode cX0_receipts 183 = .ok (.iload 6, 2) := dk_21 6 (dk_at dksX0_receipts_8 0 rfl rfl)
theorem dX0_receipts_185 : decode cX0_receipts 185 = .ok (.invokestatic 134, 3) := dk_184 0 134 (dk_at dksX0_receipts_8 2 rfl rfl)
theorem dX0_receipts_188 : decode cX0_receipts 188 = .ok (.l2i, 1) := dk_136 (dk_at dksX0_receipts_8 5 rfl rfl)
theorem dX0_receipts_189 : decode cX0_receipts 189 = .ok (.istore 7, 2) := dk_54 7 (dk_at dksX0_receipts_8 6 rfl rfl)
theorem dX0_receipts_191 : decode cX0_receipts 191 = .ok (.iconst 0, 1) := dk_3 (dk_at dksX0_receipts_8 8 rfl rfl)
theorem dX0_receipts_192 : decode cX0_receipts 192 = .ok (.istore 8, 2) := dk_54 8 (dk_at dksX0_receipts_8 9 rfl rfl)
theorem dX0_receipts_194 : decode cX0_receipts 194 = .ok (.iload 8, 2) := dk_21 8 (dk_at dksX0_receipts_8 11 rfl rfl)
theorem dX0_receipts_196 : decode cX0_receipts 196 = .ok (.aload_n 0, 1) := dk_42 (dk_at dksX0_receipts_8 13 rfl rfl)
theorem dX0_receipts_197 : decode cX0_receipts 197 = .ok (.invokevirtual 163, 3) := dk_182 0 163 (dk_at dksX0_receipts_8 14 rfl rfl)
theorem dX0_receipts_200 : decode cX0_receipts 200 = .ok (.getfield 167, 3) := dk_180 0 167 (dk_at dksX0_receipts_8 17 rfl rfl)
theorem dX0_receipts_203 : decode cX0_receipts 203 = .ok (.if_icmp .ge 56, 3) := dk_162 0 56 (dk_at dksX0_receipts_8 20 rfl rfl)
theorem dX0_receipts_206 : decode cX0_receipts 206 = .ok (.iload 8, 2) := dk_21 8 (dk_at dksX0_receipts_9 0 rfl rfl)
theorem dX0_receipts_208 : decode cX0_receipts 208 = .ok (.iload 7, 2) := dk_21 7 (dk_at dksX0_receipts_9 2 rfl rfl)
theorem dX0_receipts_210 : decode cX0_receipts 210 = .ok (.if_icmp .eq 43, 3) := dk_159 0 43 (dk_at dksX0_receipts_9 4 rfl rfl)
theorem dX0_receipts_213 : decode cX0_receipts 213 = .ok (.aload_n 0, 1) := dk_42 (dk_at dksX0_receipts_9 7 rfl rfl)
theorem dX0_receipts_214 : decode cX0_receipts 214 = .ok (.invokevirtual 163, 3) := dk_182 0 163 (dk_at dksX0_receipts_9 8 rfl rfl)
theorem dX0_receipts_217 : decode cX0_receipts 217 = .ok (.invokevirtual 249, 3) := dk_182 0 249 (dk_at dksX0_receipts_9 11 rfl rfl)
theorem dX0_receipts_220 : decode cX0_receipts 220 = .ok (.iload 8, 2) := dk_21 8 (dk_at dksX0_receipts_9 14 rfl rfl)
theorem dX0_receipts_222 : decode cX0_receipts 222 = .ok (.invokestatic 378, 3) := dk_184 1 122 (dk_at dksX0_receipts_9 16 rfl rfl)
theorem dX0_receipts_225 : decode cX0_receipts 225 = .ok (.ifCond .ne 6, 3) := dk_154 0 6 (dk_at dksX0_receipts_9 19 rfl rfl)
theorem dX0_receipts_228 : decode cX0_receipts 228 = .ok (.goto 25, 3) := dk_167 0 25 (dk_at dksX0_receipts_10 0 rfl rfl)
theorem dX0_receipts_231 : decode cX0_receipts 231 = .ok (.aload_n 0, 1) := dk_42 (dk_at dksX0_receipts_10 3 rfl rfl)
theorem dX0_receipts_232 : decode cX0_receipts 232 = .ok (.getfield 66, 3) := dk_180 0 66 (dk_at dksX0_receipts_10 4 rfl rfl)
theorem dX0_receipts_235 : decode cX0_receipts 235 = .ok (.iload 8, 2) := dk_21 8 (dk_at dksX0_receipts_10 7 rfl rfl)
theorem dX0_receipts_237 : decode cX0_receipts 237 = .ok (.dup2, 1) := dk_92 (dk_at dksX0_receipts_10 9 rfl rfl)
theorem dX0_receipts_238 : decode cX0_receipts 238 = .ok (.iaload, 1) := dk_46 (dk_at dksX0_receipts_10 10 rfl rfl)
theorem dX0_receipts_239 : decode cX0_receipts 239 = .ok (.iload_n 3, 1) := dk_29 (dk_at dksX0_receipts_10 11 rfl rfl)
theorem dX0_receipts_240 : decode cX0_receipts 240 = .ok (.isub, 1) := dk_100 (dk_at dksX0_receipts_10 12 rfl rfl)
theorem dX0_receipts_241 : decode cX0_receipts 241 = .ok (.iastore, 1) := dk_79 (dk_at dksX0_receipts_10 13 rfl rfl)
theorem dX0_receipts_242 : decode cX0_receipts 242 = .ok (.aload_n 0, 1) := dk_42 (dk_at dksX0_receipts_10 14 rfl rfl)
theorem dX0_receipts_243 : decode cX0_receipts 243 = .ok (.getfield 66, 3) := dk_180 0 66 (dk_at dksX0_receipts_10 15 rfl rfl)
theorem dX0_receipts_246 : decode cX0_receipts 246 = .ok (.iload 7, 2) := dk_21 7 (dk_at dksX0_receipts_10 18 rfl rfl)
theorem dX0_receipts_248 : decode cX0_receipts 248 = .ok (.dup2, 1) := dk_92 (dk_at dksX0_receipts_10 20 rfl rfl)
theorem dX0_receipts_249 : decode cX0_receipts 249 = .ok (.iaload, 1) := dk_46 (dk_at dksX0_receipts_10 21 rfl rfl)
theorem dX0_receipts_250 : decode cX0_receipts 250 = .ok (.iload_n 3, 1) := dk_29 (dk_at dksX0_receipts_10 22 rfl rfl)
theorem dX0_receipts_251 : decode cX0_receipts 251 = .ok (.iadd, 1) := dk_96 (dk_at dksX0_receipts_10 23 rfl rfl)
theorem dX0_receipts_252 : decode cX0_receipts 252 = .ok (.iastore, 1) := dk_79 (dk_at dksX0_receipts_11 0 rfl rfl)
theorem dX0_receipts_253 : decode cX0_receipts 253 = .ok (.iinc 8 1, 3) := dk_132 8 1 (dk_at dksX0_receipts_11 1 rfl rfl)
theorem dX0_receipts_256 : decode cX0_receipts 256 = .ok (.goto (-62), 3) := dk_167 255 194 (dk_at dksX0_receipts_11 4 rfl rfl)
theorem dX0_receipts_259 : decode cX0_receipts 259 = .ok (.iinc 6 1, 3) := dk_132 6 1 (dk_at dksX0_receipts_11 7 rfl rfl)
theorem dX0_receipts_262 : decode cX0_receipts 262 = .ok (.goto (-113), 3) := dk_167 255 143 (dk_at dksX0_receipts_11 10 rfl rfl)
theorem dX0_receipts_265 : decode cX0_receipts 265 = .ok (.goto 12, 3) := dk_167 0 12 (dk_at dksX0_receipts_11 13 rfl rfl)
theorem dX0_receipts_268 : decode cX0_receipts 268 = .ok (.astore 5, 2) := dk_58 5 (dk_at dksX0_receipts_11 16 rfl rfl)
theorem dX0_receipts_270 : decode cX0_receipts 270 = .ok (.aload_n 0, 1) := dk_42 (dk_at dksX0_receipts_11 18 rfl rfl)
theorem dX0_receipts_271 : decode cX0_receipts 271 = .ok (.aload 5, 2) := dk_25 5 (dk_at dksX0_receipts_11 19 rfl rfl)
theorem dX0_receipts_273 : decode cX0_receipts 273 = .ok (.invokevirtual 140, 3) := dk_182 0 140 (dk_at dksX0_receipts_11 21 rfl rfl)
theorem dX0_receipts_276 : decode cX0_receipts 276 = .ok (.ireturn, 1) := dk_172 (dk_at dksX0_receipts_12 0 rfl rfl)
theorem dX0_receipts_277 : decode cX0_receipts 277 = .ok (.iconst 0, 1) := dk_3 (dk_at dksX0_receipts_12 1 rfl rfl)
theorem dX0_receipts_278 : decode cX0_receipts 278 = .ok (.istore 5, 2) := dk_54 5 (dk_at dksX0_receipts_12 2 rfl rfl)
theorem dX0_receipts_280 : decode cX0_receipts 280 = .ok (.iload 5, 2) := dk_21 5 (dk_at dksX0_receipts_12 4 rfl rfl)
theorem dX0_receipts_282 : decode cX0_receipts 282 = .ok (.aload_n 0, 1) := dk_42 (dk_at dksX0_receipts_12 6 rfl rfl)
theorem dX0_receipts_283 : decode cX0_receipts 283 = .ok (.invokevirtual 163, 3) := dk_182 0 163 (dk_at dksX0_receipts_12 7 rfl rfl)
theorem dX0_receipts_286 : decode cX0_receipts 286 = .ok (.getfield 167, 3) := dk_180 0 167 (dk_at dksX0_receipts_12 10 rfl rfl)
theorem dX0_receipts_289 : decode cX0_receipts 289 = .ok (.if_icmp .ge 26, 3) := dk_162 0 26 (dk_at dksX0_receipts_12 13 rfl rfl)
theorem dX0_receipts_292 : decode cX0_receipts 292 = .ok (.aload_n 0, 1) := dk_42 (dk_at dksX0_receipts_12 16 rfl rfl)
theorem dX0_receipts_293 : decode cX0_receipts 293 = .ok (.iload 4, 2) := dk_21 4 (dk_at dksX0_receipts_12 17 rfl rfl)
theorem dX0_receipts_295 : decode cX0_receipts 295 = .ok (.iload 5, 2) := dk_21 5 (dk_at dksX0_receipts_12 19 rfl rfl)
theorem dX0_receipts_297 : decode cX0_receipts 297 = .ok (.aload_n 0, 1) := dk_42 (dk_at dksX0_receipts_12 21 rfl rfl)
theorem dX0_receipts_298 : decode cX0_receipts 298 = .ok (.getfield 66, 3) := dk_180 0 66 (dk_at dksX0_receipts_13 0 rfl rfl)
theorem dX0_receipts_301 : decode cX0_receipts 301 = .ok (.iload 5, 2) := dk_21 5 (dk_at dksX0_receipts_13 3 rfl rfl)
theorem dX0_receipts_303 : decode cX0_receipts 303 = .ok (.iaload, 1) := dk_46 (dk_at dksX0_receipts_13 5 rfl rfl)
theorem dX0_receipts_304 : decode cX0_receipts 304 = .ok (.i2l, 1) := dk_133 (dk_at dksX0_receipts_13 6 rfl rfl)
theorem dX0_receipts_305 : decode cX0_receipts 305 = .ok (.invokevirtual 458, 3) := dk_182 1 202 (dk_at dksX0_receipts_13 7 rfl rfl)
theorem dX0_receipts_308 : decode cX0_receipts 308 = .ok (.pop, 1) := dk_87 (dk_at dksX0_receipts_13 10 rfl rfl)
theorem dX0_receipts_309 : decode cX0_receipts 309 = .ok (.iinc 5 1, 3) := dk_132 5 1 (dk_at dksX0_receipts_13 11 rfl rfl)
theorem dX0_receipts_312 : decode cX0_receipts 312 = .ok (.goto (-32), 3) := dk_167 255 224 (dk_at dksX0_receipts_13 14 rfl rfl)
theorem dX0_receipts_315 : decode cX0_receipts 315 = .ok (.aload_n 0, 1) := dk_42 (dk_at dksX0_receipts_13 17 rfl rfl)
theorem dX0_receipts_316 : decode cX0_receipts 316 = .ok (.invokevirtual 163, 3) := dk_182 0 163 (dk_at dksX0_receipts_13 18 rfl rfl)
theorem dX0_receipts_319 : decode cX0_receipts 319 = .ok (.getfield 167, 3) := dk_180 0 167 (dk_at dksX0_receipts_13 21 rfl rfl)
theorem dX0_receipts_322 : decode cX0_receipts 322 = .ok (.ireturn, 1) := dk_172 (dk_at dksX0_receipts_14 0 rfl rfl)
abbrev cX0_sizeOf : ByteArray := prog_1_method_3_code
def yX0_sizeOf : MethodName := ⟨RX0, "sizeOf", "(Ljava/lang/Object;)I"⟩
def dkwX0_sizeOf_2 : List UInt8 := [42, 192, 0, 7, 190, 172]
abbrev dktX0_sizeOf_2 : List UInt8 := dkwX0_sizeOf_2 ++ []
def dkwX0_sizeOf_1 : List UInt8 := [192, 0, 3, 76, 43, 190, 172, 42, 193, 0, 5, 153, 0, 13, 42, 192, 0, 5, 76, 43, 190, 167, 0, 8]
abbrev dktX0_sizeOf_1 : List UInt8 := dkwX0_sizeOf_1 ++ dktX0_sizeOf_2
def dkwX0_sizeOf_0 : List UInt8 := [42, 193, 0, 1, 153, 0, 11, 42, 192, 0, 1, 76, 43, 190, 172, 42, 193, 0, 3, 153, 0, 11, 42]
abbrev dktX0_sizeOf_0 : List UInt8 := dkwX0_sizeOf_0 ++ dktX0_sizeOf_1
theorem dksX0_sizeOf_0 : cX0_sizeOf.data.toList.drop 0 = dktX0_sizeOf_0 := by decide +kernel
theorem dksX0_sizeOf_1 : cX0_sizeOf.data.toList.drop 23 = dktX0_sizeOf_1 := dk_seg dksX0_sizeOf_0 23 rfl rfl
theorem dksX0_sizeOf_2 : cX0_sizeOf.data.toList.drop 47 = dktX0_sizeOf_2 := dk_seg dksX0_sizeOf_1 24 rfl rfl
theorem dX0_sizeOf_0 : decode cX0_sizeOf 0 = .ok (.aload_n 0, 1) := dk_42 (dk_at dksX0_sizeOf_0 0 rfl rfl)
theorem dX0_sizeOf_1 : decode cX0_sizeOf 1 = .ok (.instanceof 1, 3) := dk_193 0 1 (dk_at dksX0_sizeOf_0 1 rfl rfl)
theorem dX0_sizeOf_4 : decode cX0_sizeOf 4 = .ok (.ifCond .eq 11, 3) := dk_153 0 11 (dk_at dksX0_sizeOf_0 4 rfl rfl)
theorem dX0_sizeOf_7 : decode cX0_sizeOf 7 = .ok (.aload_n 0, 1) := dk_42 (dk_at dksX0_sizeOf_0 7 rfl rfl)
theorem dX0_sizeOf_8 : decode cX0_sizeOf 8 = .ok (.checkcast 1, 3) := dk_192 0 1 (dk_at dksX0_sizeOf_0 8 rfl rfl)
theorem dX0_sizeOf_11 : decode cX0_sizeOf 11 = .ok (.astore_n 1, 1) := dk_76 (dk_at dksX0_sizeOf_0 11 rfl rfl)
theorem dX0_sizeOf_12 : decode cX0_sizeOf 12 = .ok (.aload_n 1, 1) := dk_43 (dk_at dksX0_sizeOf_0 12 rfl rfl)
theorem dX0_sizeOf_13 : decode cX0_sizeOf 13 = .ok (.arraylength, 1) := dk_190 (dk_at dksX0_sizeOf_0 13 rfl rfl)
theorem dX0_sizeOf_14 : decode cX0_sizeOf 14 = .ok (.ireturn, 1) := dk_172 (dk_at dksX0_sizeOf_0 14 rfl rfl)
theorem dX0_sizeOf_15 : decode cX0_sizeOf 15 = .ok (.aload_n 0, 1) := dk_42 (dk_at dksX0_sizeOf_0 15 rfl rfl)
theorem dX0_sizeOf_16 : decode cX0_sizeOf 16 = .ok (.instanceof 3, 3) := dk_193 0 3 (dk_at dksX0_sizeOf_0 16 rfl rfl)
theorem dX0_sizeOf_19 : decode cX0_sizeOf 19 = .ok (.ifCond .eq 11, 3) := dk_153 0 11 (dk_at dksX0_sizeOf_0 19 rfl rfl)
theorem dX0_sizeOf_22 : decode cX0_sizeOf 22 = .ok (.aload_n 0, 1) := dk_42 (dk_at dksX0_sizeOf_0 22 rfl rfl)
theorem dX0_sizeOf_23 : decode cX0_sizeOf 23 = .ok (.checkcast 3, 3) := dk_192 0 3 (dk_at dksX0_sizeOf_1 0 rfl rfl)
theorem dX0_sizeOf_26 : decode cX0_sizeOf 26 = .ok (.astore_n 1, 1) := dk_76 (dk_at dksX0_sizeOf_1 3 rfl rfl)
theorem dX0_sizeOf_27 : decode cX0_sizeOf 27 = .ok (.aload_n 1, 1) := dk_43 (dk_at dksX0_sizeOf_1 4 rfl rfl)
theorem dX0_sizeOf_28 : decode cX0_sizeOf 28 = .ok (.arraylength, 1) := dk_190 (dk_at dksX0_sizeOf_1 5 rfl rfl)
theorem dX0_sizeOf_29 : decode cX0_sizeOf 29 = .ok (.ireturn, 1) := dk_172 (dk_at dksX0_sizeOf_1 6 rfl rfl)
theorem dX0_sizeOf_30 : decode cX0_sizeOf 30 = .ok (.aload_n 0, 1) := dk_42 (dk_at dksX0_sizeOf_1 7 rfl rfl)
theorem dX0_sizeOf_31 : decode cX0_sizeOf 31 = .ok (.instanceof 5, 3) := dk_193 0 5 (dk_at dksX0_sizeOf_1 8 rfl rfl)
theorem dX0_sizeOf_34 : decode cX0_sizeOf 34 = .ok (.ifCond .eq 13, 3) := dk_153 0 13 (dk_at dksX0_sizeOf_1 11 rfl rfl)
theorem dX0_sizeOf_37 : decode cX0_sizeOf 37 = .ok (.aload_n 0, 1) := dk_42 (dk_at dksX0_sizeOf_1 14 rfl rfl)
theorem dX0_sizeOf_38 : decode cX0_sizeOf 38 = .ok (.checkcast 5, 3) := dk_192 0 5 (dk_at dksX0_sizeOf_1 15 rfl rfl)
theorem dX0_sizeOf_41 : decode cX0_sizeOf 41 = .ok (.astore_n 1, 1) := dk_76 (dk_at dksX0_sizeOf_1 18 rfl rfl)
theorem dX0_sizeOf_42 : decode cX0_sizeOf 42 = .ok (.aload_n 1, 1) := dk_43 (dk_at dksX0_sizeOf_1 19 rfl rfl)
theorem dX0_sizeOf_43 : decode cX0_sizeOf 43 = .ok (.arraylength, 1) := dk_190 (dk_at dksX0_sizeOf_1 20 rfl rfl)
theorem dX0_sizeOf_44 : decode cX0_sizeOf 44 = .ok (.goto 8, 3) := dk_167 0 8 (dk_at dksX0_sizeOf_1 21 rfl rfl)
theorem dX0_sizeOf_47 : decode cX0_sizeOf 47 = .ok (.aload_n 0, 1) := dk_42 (dk_at dksX0_sizeOf_2 0 rfl rfl)
theorem dX0_sizeOf_48 : decode cX0_sizeOf 48 = .ok (.checkcast 7, 3) := dk_192 0 7 (dk_at dksX0_sizeOf_2 1 rfl rfl)
theorem dX0_sizeOf_51 : decode cX0_sizeOf 51 = .ok (.arraylength, 1) := dk_190 (dk_at dksX0_sizeOf_2 4 rfl rfl)
theorem dX0_sizeOf_52 : decode cX0_sizeOf 52 = .ok (.ireturn, 1) := dk_172 (dk_at dksX0_sizeOf_2 5 rfl rfl)
abbrev cX0_remembers : ByteArray := prog_1_method_98_code
def yX0_remembers : MethodName := ⟨RX0, "remembers", "(I)I"⟩
def dkwX0_remembers_7 : List UInt8 := [44, 182, 0, 140, 172]
abbrev dktX0_remembers_7 : List UInt8 := dkwX0_remembers_7 ++ []
def dkwX0_remembers_6 : List UInt8 := [167, 0, 10, 22, 7, 55, 4, 21, 6, 62, 132, 6, 1, 167, 255, 201, 42, 29, 182, 1, 40, 172, 77, 42]
abbrev dktX0_remembers_6 : List UInt8 := dkwX0_remembers_6 ++ dktX0_remembers_7
def dkwX0_remembers_5 : List UInt8 := [42, 182, 0, 163, 21, 6, 182, 1, 125, 133, 101, 184, 0, 95, 55, 7, 22, 7, 22, 4, 148, 157, 0, 6]
abbrev dktX0_remembers_5 : List UInt8 := dkwX0_remembers_5 ++ dktX0_remembers_6
def dkwX0_remembers_4 : List UInt8 := [167, 255, 221, 3, 54, 6, 21, 6, 42, 182, 0, 163, 180, 0, 167, 162, 0, 49, 44, 21, 6, 184, 0, 134]
abbrev dktX0_remembers_4 : List UInt8 := dkwX0_remembers_4 ++ dktX0_remembers_5
def dkwX0_remembers_3 : List UInt8 := [44, 21, 6, 184, 0, 134, 20, 1, 206, 20, 1, 208, 184, 0, 170, 8, 182, 0, 107, 132, 6, 1]
abbrev dktX0_remembers_3 : List UInt8 := dkwX0_remembers_3 ++ dktX0_remembers_4
def dkwX0_remembers_2 : List UInt8 := [182, 0, 107, 2, 62, 9, 55, 4, 3, 54, 6, 21, 6, 42, 182, 0, 163, 180, 0, 167, 162, 0, 29, 42]
abbrev dktX0_remembers_2 : List UInt8 := dkwX0_remembers_2 ++ dktX0_remembers_3
def dkwX0_remembers_1 : List UInt8 := [77, 42, 44, 184, 1, 199, 42, 182, 0, 163, 180, 0, 167, 161, 0, 7, 4, 167, 0, 4, 3, 6]
abbrev dktX0_remembers_1 : List UInt8 := dkwX0_remembers_1 ++ dktX0_remembers_2
def dkwX0_remembers_0 : List UInt8 := [42, 3, 181, 0, 82, 42, 27, 133, 9, 20, 0, 180, 184, 0, 170, 4, 182, 0, 107, 42, 27, 182, 0, 124]
abbrev dktX0_remembers_0 : List UInt8 := dkwX0_remembers_0 ++ dktX0_remembers_1
theorem dksX0_remembers_0 : cX0_remembers.data.toList.drop 0 = dktX0_remembers_0 := by decide +kernel
theorem dksX0_remembers_1 : cX0_remembers.data.toList.drop 24 = dktX0_remembers_1 := dk_seg dksX0_remembers_0 24 rfl rfl
theorem dksX0_remembers_2 : cX0_remembers.data.toList.drop 46 = dktX0_remembers_2 := dk_seg dksX0_remembers_1 22 rfl rfl
theorem dksX0_remembers_3 : cX0_remembers.data.toList.drop 70 = dktX0_remembers_3 := dk_seg dksX0_remembers_2 24 rfl rfl
theorem dksX0_remembers_4 : cX0_remembers.data.toList.drop 92 = dktX0_remembers_4 := dk_seg dksX0_remembers_3 22 rfl rfl
theorem dksX0_remembers_5 : cX0_remembers.data.toList.drop 116 = dktX0_remembers_5 := dk_seg dksX0_remembers_4 24 rfl rfl
theorem dksX0_remembers_6 : cX0_remembers.data.toList.drop 140 = dktX0_remembers_6 := dk_seg dksX0_remembers_5 24 rfl rfl
theorem dksX0_remembers_7 : cX0_remembers.data.toList.drop 164 = dktX0_remembers_7 := dk_seg dksX0_remembers_6 24 rfl rfl
theorem dX0_remembers_0 : decode cX0_remembers 0 = .ok (.aload_n 0, 1) := dk_42 (dk_at dksX0_remembers_0 0 rfl rfl)
theorem dX0_remembers_1 : decode cX0_remembers 1 = .ok (.iconst 0, 1) := dk_3 (dk_at dksX0_remembers_0 1 rfl rfl)
theorem dX0_remembers_2 : decode cX0_remembers 2 = .ok (.putfield 82, 3) := dk_181 0 82 (dk_at dksX0_remembers_0 2 rfl rfl)
theorem dX0_remembers_5 : decode cX0_remembers 5 = .ok (.aload_n 0, 1) := dk_42 (dk_at dksX0_remembers_0 5 rfl rfl)
theorem dX0_remembers_6 : decode cX0_remembers 6 = .ok (.iload_n 1, 1) := dk_27 (dk_at dksX0_remembers_0 6 rfl rfl)
theorem dX0_remembers_7 : decode cX0_remembers 7 = .ok (.i2l, 1) := dk_133 (dk_at dksX0_remembers_0 7 rfl rfl)
theorem dX0_remembers_8 : decode cX0_remembers 8 = .ok (.lconst 0, 1) := dk_9 (dk_at dksX0_remembers_0 8 rfl rfl)
theorem dX0_remembers_9 : decode cX0_remembers 9 = .ok (.ldc2_w 180, 3) := dk_20 0 180 (dk_at dksX0_remembers_0 9 rfl rfl)
theorem dX0_remembers_12 : decode cX0_remembers 12 = .ok (.invokestatic 170, 3) := dk_184 0 170 (dk_at dksX0_remembers_0 12 rfl rfl)
theorem dX0_remembers_15 : decode cX0_remembers 15 = .ok (.iconst 1, 1) := dk_4 (dk_at dksX0_remembers_0 15 rfl rfl)
theorem dX0_remembers_16 : decode cX0_remembers 16 = .ok (.invokevirtual 107, 3) := dk_182 0 107 (dk_at dksX0_remembers_0 16 rfl rfl)
theorem dX0_remembers_19 : decode cX0_remembers 19 = .ok (.aload_n 0, 1) := dk_42 (dk_at dksX0_remembers_0 19 rfl rfl)
theorem dX0_remembers_20 : decode cX0_remembers 20 = .ok (.iload_n 1, 1) := dk_27 (dk_at dksX0_remembers_0 20 rfl rfl)
theorem dX0_remembers_21 : decode cX0_remembers 21 = .ok (.invokevirtual 124, 3) := dk_182 0 124 (dk_at dksX0_remembers_0 21 rfl rfl)
theorem dX0_remembers_24 : decode cX0_remembers 24 = .ok (.astore_n 2, 1) := dk_77 (dk_at dksX0_remembers_1 0 rfl rfl)
theorem dX0_remembers_25 : decode cX0_remembers 25 = .ok (.aload_n 0, 1) := dk_42 (dk_at dksX0_remembers_1 1 rfl rfl)
theorem dX0_remembers_26 : decode cX0_remembers 26 = .ok (.aload_n 2, 1) := dk_44 (dk_at dksX0_remembers_1 2 rfl rfl)
theorem dX0_remembers_27 : decode cX0_remembers 27 = .ok (.invokestatic 455, 3) := dk_184 1 199 (dk_at dksX0_remembers_1 3 rfl rfl)
theorem dX0_remembers_30 : decode cX0_remembers 30 = .ok (.aload_n 0, 1) := dk_42 (dk_at dksX0_remembers_1 6 rfl rfl)
theorem dX0_remembers_31 : decode cX0_remembers 31 = .ok (.invokevirtual 163, 3) := dk_182 0 163 (dk_at dksX0_remembers_1 7 rfl rfl)
theorem dX0_remembers_34 : decode cX0_remembers 34 = .ok (.getfield 167, 3) := dk_180 0 167 (dk_at dksX0_remembers_1 10 rfl rfl)
theorem dX0_remembers_37 : decode cX0_remembers 37 = .ok (.if_icmp .lt 7, 3) := dk_161 0 7 (dk_at dksX0_remembers_1 13 rfl rfl)
theorem dX0_remembers_40 : decode cX0_remembers 40 = .ok (.iconst 1, 1) := dk_4 (dk_at dksX0_remembers_1 16 rfl rfl)
theorem dX0_remembers_41 : decode cX0_remembers 41 = .ok (.goto 4, 3) := dk_167 0 4 (dk_at dksX0_remembers_1 17 rfl rfl)
theorem dX0_remembers_44 : decode cX0_remembers 44 = .ok (.iconst 0, 1) := dk_3 (dk_at dksX0_remembers_1 20 rfl rfl)
theorem dX0_remembers_45 : decode cX0_remembers 45 = .ok (.iconst 3, 1) := dk_6 (dk_at dksX0_remembers_1 21 rfl rfl)
theorem dX0_remembers_46 : decode cX0_remembers 46 = .ok (.invokevirtual 107, 3) := dk_182 0 107 (dk_at dksX0_remembers_2 0 rfl rfl)
theorem dX0_remembers_49 : decode cX0_remembers 49 = .ok (.iconst (-1), 1) := dk_2 (dk_at dksX0_remembers_2 3 rfl rfl)
theorem dX0_remembers_50 : decode cX0_remembers 50 = .ok (.istore_n 3, 1) := dk_62 (dk_at dksX0_remembers_2 4 rfl rfl)
theorem dX0_remembers_51 : decode cX0_remembers 51 = .ok (.lconst 0, 1) := dk_9 (dk_at dksX0_remembers_2 5 rfl rfl)
theorem dX0_remembers_52 : decode cX0_remembers 52 = .ok (.lstore 4, 2) := dk_55 4 (dk_at dksX0_remembers_2 6 rfl rfl)
theorem dX0_remembers_54 : decode cX0_remembers 54 = .ok (.iconst 0, 1) := dk_3 (dk_at dksX0_remembers_2 8 rfl rfl)
theorem dX0_remembers_55 : decode cX0_remembers 55 = .ok (.istore 6, 2) := dk_54 6 (dk_at dksX0_remembers_2 9 rfl rfl)
theorem dX0_remembers_57 : decode cX0_remembers 57 = .ok (.iload 6, 2) := dk_21 6 (dk_at dksX0_remembers_2 11 rfl rfl)
theorem dX0_remembers_59 : decode cX0_remembers 59 = .ok (.aload_n 0, 1) := dk_42 (dk_at dksX0_remembers_2 13 rfl rfl)
theorem dX0_remembers_60 : decode cX0_remembers 60 = .ok (.invokevirtual 163, 3) := dk_182 0 163 (dk_at dksX0_remembers_2 14 rfl rfl)
theorem dX0_remembers_63 : decode cX0_remembers 63 = .ok (.getfield 167, 3) := dk_180 0 167 (dk_at dksX0_remembers_2 17 rfl rfl)
theorem dX0_remembers_66 : decode cX0_remembers 66 = .ok (.if_icmp .ge 29, 3) := dk_162 0 29 (dk_at dksX0_remembers_2 20 rfl rfl)
theorem dX0_remembers_69 : decode cX0_remembers 69 = .ok (.aload_n 0, 1) := dk_42 (dk_at dksX0_remembers_2 23 rfl rfl)
theorem dX0_remembers_70 : decode cX0_remembers 70 = .ok (.aload_n 2, 1) := dk_44 (dk_at dksX0_remembers_3 0 rfl rfl)
theorem dX0_remembers_71 : decode cX0_remembers 71 = .ok (.iload 6, 2) := dk_21 6 (dk_at dksX0_remembers_3 1 rfl rfl)
theorem dX0_remembers_73 : decode cX0_remembers 73 = .ok (.invokestatic 134, 3) := dk_184 0 134 (dk_at dksX0_remembers_3 3 rfl rfl)
theorem dX0_remembers_76 : decode cX0_remembers 76 = .ok (.ldc2_w 462, 3) := dk_20 1 206 (dk_at dksX0_remembers_3 6 rfl rfl)
theorem dX0_remembers_79 : decode cX0_remembers 79 = .ok (.ldc2_w 464, 3) := dk_20 1 208 (dk_at dksX0_remembers_3 9 rfl rfl)
theorem dX0_remembers_82 : decode cX0_remembers 82 = .ok (.invokestatic 170, 3) := dk_184 0 170 (dk_at dksX0_remembers_3 12 rfl rfl)
theorem dX0_remembers_85 : decode cX0_remembers 85 = .ok (.iconst 5, 1) := dk_8 (dk_at dksX0_remembers_3 15 rfl rfl)
theorem dX0_remembers_86 : decode cX0_remembers 86 = .ok (.invokevirtual 107, 3) := dk_182 0 107 (dk_at dksX0_remembers_3 16 rfl rfl)
theorem dX0_remembers_89 : decode cX0_remembers 89 = .ok (.iinc 6 1, 3) := dk_132 6 1 (dk_at dksX0_remembers_3 19 rfl rfl)
theorem dX0_remembers_92 : decode cX0_remembers 92 = .ok (.goto (-35), 3) := dk_167 255 221 (dk_at dksX0_remembers_4 0 rfl rfl)
theorem dX0_remembers_95 : decode cX0_remembers 95 = .ok (.iconst 0, 1) := dk_3 (dk_at dksX0_remembers_4 3 rfl rfl)
theorem dX0_remembers_96 : decode cX0_remembers 96 = .ok (.istore 6, 2) := dk_54 6 (dk_at dksX0_remembers_4 4 rfl rfl)
theorem dX0_remembers_98 : decode cX0_remembers 98 = .ok (.iload 6, 2) := dk_21 6 (dk_at dksX0_remembers_4 6 rfl rfl)
theorem dX0_remembers_100 : decode cX0_remembers 100 = .ok (.aload_n 0, 1) := dk_42 (dk_at dksX0_remembers_4 8 rfl rfl)
theorem dX0_remembers_101 : decode cX0_remembers 101 = .ok (.invokevirtual 163, 3) := dk_182 0 163 (dk_at dksX0_remembers_4 9 rfl rfl)
theorem dX0_remembers_104 : decode cX0_remembers 104 = .ok (.getfield 167, 3) := dk_180 0 167 (dk_at dksX0_remembers_4 12 rfl rfl)
theorem dX0_remembers_107 : decode cX0_remembers 107 = .ok (.if_icmp .ge 49, 3) := dk_162 0 49 (dk_at dksX0_remembers_4 15 rfl rfl)
theorem dX0_remembers_110 : decode cX0_remembers 110 = .ok (.aload_n 2, 1) := dk_44 (dk_at dksX0_remembers_4 18 rfl rfl)
theorem dX0_remembers_111 : decode cX0_remembers 111 = .ok (.iload 6, 2) := dk_21 6 (dk_at dksX0_remembers_4 19 rfl rfl)
theorem dX0_remembers_113 : decode cX0_remembers 113 = .ok (.invokestatic 134, 3) := dk_184 0 134 (dk_at dksX0_remembers_4 21 rfl rfl)
theorem dX0_remembers_116 : decode cX0_remembers 116 = .ok (.aload_n 0, 1) := dk_42 (dk_at dksX0_remembers_5 0 rfl rfl)
theorem dX0_remembers_117 : decode cX0_remembers 117 = .ok (.invokevirtual 163, 3) := dk_182 0 163 (dk_at dksX0_remembers_5 1 rfl rfl)
theorem dX0_remembers_120 : decode cX0_remembers 120 = .ok (.iload 6, 2) := dk_21 6 (dk_at dksX0_remembers_5 4 rfl rfl)
theorem dX0_remembers_122 : decode cX0_remembers 122 = .ok (.invokevirtual 381, 3) := dk_182 1 125 (dk_at dksX0_remembers_5 6 rfl rfl)
theorem dX0_remembers_125 : decode cX0_remembers 125 = .ok (.i2l, 1) := dk_133 (dk_at dksX0_remembers_5 9 rfl rfl)
theorem dX0_remembers_126 : decode cX0_remembers 126 = .ok (.lsub, 1) := dk_101 (dk_at dksX0_remembers_5 10 rfl rfl)
theorem dX0_remembers_127 : decode cX0_remembers 127 = .ok (.invokestatic 95, 3) := dk_184 0 95 (dk_at dksX0_remembers_5 11 rfl rfl)
theorem dX0_remembers_130 : decode cX0_remembers 130 = .ok (.lstore 7, 2) := dk_55 7 (dk_at dksX0_remembers_5 14 rfl rfl)
theorem dX0_remembers_132 : decode cX0_remembers 132 = .ok (.lload 7, 2) := dk_22 7 (dk_at dksX0_remembers_5 16 rfl rfl)
theorem dX0_remembers_134 : decode cX0_remembers 134 = .ok (.lload 4, 2) := dk_22 4 (dk_at dksX0_remembers_5 18 rfl rfl)
theorem dX0_remembers_136 : decode cX0_remembers 136 = .ok (.lcmp, 1) := dk_148 (dk_at dksX0_remembers_5 20 rfl rfl)
theorem dX0_remembers_137 : decode cX0_remembers 137 = .ok (.ifCond .gt 6, 3) := dk_157 0 6 (dk_at dksX0_remembers_5 21 rfl rfl)
theorem dX0_remembers_140 : decode cX0_remembers 140 = .ok (.goto 10, 3) := dk_167 0 10 (dk_at dksX0_remembers_6 0 rfl rfl)
theorem dX0_remembers_143 : decode cX0_remembers 143 = .ok (.lload 7, 2) := dk_22 7 (dk_at dksX0_remembers_6 3 rfl rfl)
theorem dX0_remembers_145 : decode cX0_remembers 145 = .ok (.lstore 4, 2) := dk_55 4 (dk_at dksX0_remembers_6 5 rfl rfl)
theorem dX0_remembers_147 : decode cX0_remembers 147 = .ok (.iload 6, 2) := dk_21 6 (dk_at dksX0_remembers_6 7 rfl rfl)
theorem dX0_remembers_149 : decode cX0_remembers 149 = .ok (.istore_n 3, 1) := dk_62 (dk_at dksX0_remembers_6 9 rfl rfl)
theorem dX0_remembers_150 : decode cX0_remembers 150 = .ok (.iinc 6 1, 3) := dk_132 6 1 (dk_at dksX0_remembers_6 10 rfl rfl)
theorem dX0_remembers_153 : decode cX0_remembers 153 = .ok (.goto (-55), 3) := dk_167 255 201 (dk_at dksX0_remembers_6 13 rfl rfl)
theorem dX0_remembers_156 : decode cX0_remembers 156 = .ok (.aload_n 0, 1) := dk_42 (dk_at dksX0_remembers_6 16 rfl rfl)
theorem dX0_remembers_157 : decode cX0_remembers 157 = .ok (.iload_n 3, 1) := dk_29 (dk_at dksX0_remembers_6 17 rfl rfl)
theorem dX0_remembers_158 : decode cX0_remembers 158 = .ok (.invokevirtual 296, 3) := dk_182 1 40 (dk_at dksX0_remembers_6 18 rfl rfl)
theorem dX0_remembers_161 : decode cX0_remembers 161 = .ok (.ireturn, 1) := dk_172 (dk_at dksX0_remembers_6 21 rfl rfl)
theorem dX0_remembers_162 : decode cX0_remembers 162 = .ok (.astore_n 2, 1) := dk_77 (dk_at dksX0_remembers_6 22 rfl rfl)
theorem dX0_remembers_163 : decode cX0_remembers 163 = .ok (.aload_n 0, 1) := dk_42 (dk_at dksX0_remembers_6 23 rfl rfl)
theorem dX0_remembers_164 : decode cX0_remembers 164 = .ok (.aload_n 2, 1) := dk_44 (dk_at dksX0_remembers_7 0 rfl rfl)
theorem dX0_remembers_165 : decode cX0_remembers 165 = .ok (.invokevirtual 140, 3) := dk_182 0 140 (dk_at dksX0_remembers_7 1 rfl rfl)
theorem dX0_remembers_168 : decode cX0_remembers 168 = .ok (.ireturn, 1) := dk_172 (dk_at dksX0_remembers_7 4 rfl rfl)
abbrev cX0_live : ByteArray := prog_1_method_99_code
def yX0_live : MethodName := ⟨RX0, "live", "(I)I"⟩
def dkwX0_live_5 : List UInt8 := [153, 0, 7, 4, 167, 0, 4, 3, 79, 42, 4, 181, 1, 233, 44, 180, 1, 236, 172]
abbrev dktX0_live_5 : List UInt8 := dkwX0_live_5 ++ []
def dkwX0_live_4 : List UInt8 := [44, 180, 1, 225, 79, 42, 180, 0, 79, 6, 44, 180, 1, 228, 79, 42, 180, 0, 79, 7, 44, 180, 1, 229]
abbrev dktX0_live_4 : List UInt8 := dkwX0_live_4 ++ dktX0_live_5
def dkwX0_live_3 : List UInt8 := [180, 0, 79, 3, 44, 180, 1, 219, 79, 42, 180, 0, 79, 4, 44, 180, 1, 222, 79, 42, 180, 0, 79, 5]
abbrev dktX0_live_3 : List UInt8 := dkwX0_live_3 ++ dktX0_live_4
def dkwX0_live_2 : List UInt8 := [89, 42, 182, 0, 163, 27, 183, 1, 212, 77, 42, 180, 0, 55, 180, 0, 210, 44, 182, 1, 215, 42]
abbrev dktX0_live_2 : List UInt8 := dkwX0_live_2 ++ dktX0_live_3
def dkwX0_live_1 : List UInt8 := [199, 0, 8, 16, 6, 167, 0, 4, 3, 181, 0, 82, 42, 180, 0, 82, 158, 0, 5, 2, 172, 187, 1, 210]
abbrev dktX0_live_1 : List UInt8 := dkwX0_live_1 ++ dktX0_live_2
def dkwX0_live_0 : List UInt8 := [42, 27, 133, 9, 20, 1, 85, 184, 0, 170, 154, 0, 7, 4, 167, 0, 19, 42, 180, 0, 55, 180, 0, 210]
abbrev dktX0_live_0 : List UInt8 := dkwX0_live_0 ++ dktX0_live_1
theorem dksX0_live_0 : cX0_live.data.toList.drop 0 = dktX0_live_0 := by decide +kernel
theorem dksX0_live_1 : cX0_live.data.toList.drop 24 = dktX0_live_1 := dk_seg dksX0_live_0 24 rfl rfl
theorem dksX0_live_2 : cX0_live.data.toList.drop 48 = dktX0_live_2 := dk_seg dksX0_live_1 24 rfl rfl
theorem dksX0_live_3 : cX0_live.data.toList.drop 70 = dktX0_live_3 := dk_seg dksX0_live_2 22 rfl rfl
theorem dksX0_live_4 : cX0_live.data.toList.drop 94 = dktX0_live_4 := dk_seg dksX0_live_3 24 rfl rfl
theorem dksX0_live_5 : cX0_live.data.toList.drop 118 = dktX0_live_5 := dk_seg dksX0_live_4 24 rfl rfl
theorem dX0_live_0 : decode cX0_live 0 = .ok (.aload_n 0, 1) := dk_42 (dk_at dksX0_live_0 0 rfl rfl)
theorem dX0_live_1 : decode cX0_live 1 = .ok (.iload_n 1, 1) := dk_27 (dk_at dksX0_live_0 1 rfl rfl)
theorem dX0_live_2 : decode cX0_live 2 = .ok (.i2l, 1) := dk_133 (dk_at dksX0_live_0 2 rfl rfl)
theorem dX0_live_3 : decode cX0_live 3 = .ok (.lconst 0, 1) := dk_9 (dk_at dksX0_live_0 3 rfl rfl)
theorem dX0_live_4 : decode cX0_live 4 = .ok (.ldc2_w 341, 3) := dk_20 1 85 (dk_at dksX0_live_0 4 rfl rfl)
theorem dX0_live_7 : decode cX0_live 7 = .ok (.invokestatic 170, 3) := dk_184 0 170 (dk_at dksX0_live_0 7 rfl rfl)
theorem dX0_live_10 : decode cX0_live 10 = .ok (.ifCond .ne 7, 3) := dk_154 0 7 (dk_at dksX0_live_0 10 rfl rfl)
theorem dX0_live_13 : decode cX0_live 13 = .ok (.iconst 1, 1) := dk_4 (dk_at dksX0_live_0 13 rfl rfl)
theorem dX0_live_14 : decode cX0_live 14 = .ok (.goto 19, 3) := dk_167 0 19 (dk_at dksX0_live_0 14 rfl rfl)
theorem dX0_live_17 : decode cX0_live 17 = .ok (.aload_n 0, 1) := dk_42 (dk_at dksX0_live_0 17 rfl rfl)
theorem dX0_live_18 : decode cX0_live 18 = .ok (.getfield 55, 3) := dk_180 0 55 (dk_at dksX0_live_0 18 rfl rfl)
theorem dX0_live_21 : decode cX0_live 21 = .ok (.getfield 210, 3) := dk_180 0 210 (dk_at dksX0_live_0 21 rfl rfl)
theorem dX0_live_24 : decode cX0_live 24 = .ok (.ifnonnull 8, 3) := dk_199 0 8 (dk_at dksX0_live_1 0 rfl rfl)
theorem dX0_live_27 : decode cX0_live 27 = .ok (.bipush 6, 2) := dk_16 6 (dk_at dksX0_live_1 3 rfl rfl)
theorem dX0_live_29 : decode cX0_live 29 = .ok (.goto 4, 3) := dk_167 0 4 (dk_at dksX0_live_1 5 rfl rfl)
theorem dX0_live_32 : decode cX0_live 32 = .ok (.iconst 0, 1) := dk_3 (dk_at dksX0_live_1 8 rfl rfl)
theorem dX0_live_33 : decode cX0_live 33 = .ok (.putfield 82, 3) := dk_181 0 82 (dk_at dksX0_live_1 9 rfl rfl)
theorem dX0_live_36 : decode cX0_live 36 = .ok (.aload_n 0, 1) := dk_42 (dk_at dksX0_live_1 12 rfl rfl)
theorem dX0_live_37 : decode cX0_live 37 = .ok (.getfield 82, 3) := dk_180 0 82 (dk_at dksX0_live_1 13 rfl rfl)
theorem dX0_live_40 : decode cX0_live 40 = .ok (.ifCond .le 5, 3) := dk_158 0 5 (dk_at dksX0_live_1 16 rfl rfl)
theorem dX0_live_43 : decode cX0_live 43 = .ok (.iconst (-1), 1) := dk_2 (dk_at dksX0_live_1 19 rfl rfl)
theorem dX0_live_44 : decode cX0_live 44 = .ok (.ireturn, 1) := dk_172 (dk_at dksX0_live_1 20 rfl rfl)
theorem dX0_live_45 : decode cX0_live 45 = .ok (.new 466, 3) := dk_187 1 210 (dk_at dksX0_live_1 21 rfl rfl)
theorem dX0_live_48 : decode cX0_live 48 = .ok (.dup, 1) := dk_89 (dk_at dksX0_live_2 0 rfl rfl)
theorem dX0_live_49 : decode cX0_live 49 = .ok (.aload_n 0, 1) := dk_42 (dk_at dksX0_live_2 1 rfl rfl)
theorem dX0_live_50 : decode cX0_live 50 = .ok (.invokevirtual 163, 3) := dk_182 0 163 (dk_at dksX0_live_2 2 rfl rfl)
theorem dX0_live_53 : decode cX0_live 53 = .ok (.iload_n 1, 1) := dk_27 (dk_at dksX0_live_2 5 rfl rfl)
theorem dX0_live_54 : decode cX0_live 54 = .ok (.invokespecial 468, 3) := dk_183 1 212 (dk_at dksX0_live_2 6 rfl rfl)
theorem dX0_live_57 : decode cX0_live 57 = .ok (.astore_n 2, 1) := dk_77 (dk_at dksX0_live_2 9 rfl rfl)
theorem dX0_live_58 : decode cX0_live 58 = .ok (.aload_n 0, 1) := dk_42 (dk_at dksX0_live_2 10 rfl rfl)
theorem dX0_live_59 : decode cX0_live 59 = .ok (.getfield 55, 3) := dk_180 0 55 (dk_at dksX0_live_2 11 rfl rfl)
theorem dX0_live_62 : decode cX0_live 62 = .ok (.getfield 210, 3) := dk_180 0 210 (dk_at dksX0_live_2 14 rfl rfl)
theorem dX0_live_65 : decode cX0_live 65 = .ok (.aload_n 2, 1) := dk_44 (dk_at dksX0_live_2 17 rfl rfl)
theorem dX0_live_66 : decode cX0_live 66 = .ok (.invokevirtual 471, 3) := dk_182 1 215 (dk_at dksX0_live_2 18 rfl rfl)
theorem dX0_live_69 : decode cX0_live 69 = .ok (.aload_n 0, 1) := dk_42 (dk_at dksX0_live_2 21 rfl rfl)
theorem dX0_live_70 : decode cX0_live 70 = .ok (.getfield 79, 3) := dk_180 0 79 (dk_at dksX0_live_3 0 rfl rfl)
theorem dX0_live_73 : decode cX0_live 73 = .ok (.iconst 0, 1) := dk_3 (dk_at dksX0_live_3 3 rfl rfl)
theorem dX0_live_74 : decode cX0_live 74 = .ok (.aload_n 2, 1) := dk_44 (dk_at dksX0_live_3 4 rfl rfl)
theorem dX0_live_75 : decode cX0_live 75 = .ok (.getfield 475, 3) := dk_180 1 219 (dk_at dksX0_live_3 5 rfl rfl)
theorem dX0_live_78 : decode cX0_live 78 = .ok (.iastore, 1) := dk_79 (dk_at dksX0_live_3 8 rfl rfl)
theorem dX0_live_79 : decode cX0_live 79 = .ok (.aload_n 0, 1) := dk_42 (dk_at dksX0_live_3 9 rfl rfl)
theorem dX0_live_80 : decode cX0_live 80 = .ok (.getfield 79, 3) := dk_180 0 79 (dk_at dksX0_live_3 10 rfl rfl)
theorem dX0_live_83 : decode cX0_live 83 = .ok (.iconst 1, 1) := dk_4 (dk_at dksX0_live_3 13 rfl rfl)
theorem dX0_live_84 : decode cX0_live 84 = .ok (.aload_n 2, 1) := dk_44 (dk_at dksX0_live_3 14 rfl rfl)
theorem dX0_live_85 : decode cX0_live 85 = .ok (.getfield 478, 3) := dk_180 1 222 (dk_at dksX0_live_3 15 rfl rfl)
theorem dX0_live_88 : decode cX0_live 88 = .ok (.iastore, 1) := dk_79 (dk_at dksX0_live_3 18 rfl rfl)
theorem dX0_live_89 : decode cX0_live 89 = .ok (.aload_n 0, 1) := dk_42 (dk_at dksX0_live_3 19 rfl rfl)
theorem dX0_live_90 : decode cX0_live 90 = .ok (.getfield 79, 3) := dk_180 0 79 (dk_at dksX0_live_3 20 rfl rfl)
theorem dX0_live_93 : decode cX0_live 93 = .ok (.iconst 2, 1) := dk_5 (dk_at dksX0_live_3 23 rfl rfl)
theorem dX0_live_94 : decode cX0_live 94 = .ok (.aload_n 2, 1) := dk_44 (dk_at dksX0_live_4 0 rfl rfl)
theorem dX0_live_95 : decode cX0_live 95 = .ok (.getfield 481, 3) := dk_180 1 225 (dk_at dksX0_live_4 1 rfl rfl)
theorem dX0_live_98 : decode cX0_live 98 = .ok (.iastore, 1) := dk_79 (dk_at dksX0_live_4 4 rfl rfl)
theorem dX0_live_99 : decode cX0_live 99 = .ok (.aload_n 0, 1) := dk_42 (dk_at dksX0_live_4 5 rfl rfl)
theorem dX0_live_100 : decode cX0_live 100 = .ok (.getfield 79, 3) := dk_180 0 79 (dk_at dksX0_live_4 6 rfl rfl)
theorem dX0_live_103 : decode cX0_live 103 = .ok (.iconst 3, 1) := dk_6 (dk_at dksX0_live_4 9 rfl rfl)
theorem dX0_live_104 : decode cX0_live 104 = .ok (.aload_n 2, 1) := dk_44 (dk_at dksX0_live_4 10 rfl rfl)
theorem dX0_live_105 : decode cX0_live 105 = .ok (.getfield 484, 3) := dk_180 1 228 (dk_at dksX0_live_4 11 rfl rfl)
theorem dX0_live_108 : decode cX0_live 108 = .ok (.iastore, 1) := dk_79 (dk_at dksX0_live_4 14 rfl rfl)
theorem dX0_live_109 : decode cX0_live 109 = .ok (.aload_n 0, 1) := dk_42 (dk_at dksX0_live_4 15 rfl rfl)
theorem dX0_live_110 : decode cX0_live 110 = .ok (.getfield 79, 3) := dk_180 0 79 (dk_at dksX0_live_4 16 rfl rfl)
theorem dX0_live_113 : decode cX0_live 113 = .ok (.iconst 4, 1) := dk_7 (dk_at dksX0_live_4 19 rfl rfl)
theorem dX0_live_114 : decode cX0_live 114 = .ok (.aload_n 2, 1) := dk_44 (dk_at dksX0_live_4 20 rfl rfl)
theorem dX0_live_115 : decode cX0_live 115 = .ok (.getfield 485, 3) := dk_180 1 229 (dk_at dksX0_live_4 21 rfl rfl)
theorem dX0_live_118 : decode cX0_live 118 = .ok (.ifCond .eq 7, 3) := dk_153 0 7 (dk_at dksX0_live_5 0 rfl rfl)
theorem dX0_live_121 : decode cX0_live 121 = .ok (.iconst 1, 1) := dk_4 (dk_at dksX0_live_5 3 rfl rfl)
theorem dX0_live_122 : decode cX0_live 122 = .ok (.goto 4, 3) := dk_167 0 4 (dk_at dksX0_live_5 4 rfl rfl)
theorem dX0_live_125 : decode cX0_live 125 = .ok (.iconst 0, 1) := dk_3 (dk_at dksX0_live_5 7 rfl rfl)
theorem dX0_live_126 : decode cX0_live 126 = .ok (.iastore, 1) := dk_79 (dk_at dksX0_live_5 8 rfl rfl)
theorem dX0_live_127 : decode cX0_live 127 = .ok (.aload_n 0, 1) := dk_42 (dk_at dksX0_live_5 9 rfl rfl)
theorem dX0_live_128 : decode cX0_live 128 = .ok (.iconst 1, 1) := dk_4 (dk_at dksX0_live_5 10 rfl rfl)
theorem dX0_live_129 : decode cX0_live 129 = .ok (.putfield 489, 3) := dk_181 1 233 (dk_at dksX0_live_5 11 rfl rfl)
theorem dX0_live_132 : decode cX0_live 132 = .ok (.aload_n 2, 1) := dk_44 (dk_at dksX0_live_5 14 rfl rfl)
theorem dX0_live_133 : decode cX0_live 133 = .ok (.getfield 492, 3) := dk_180 1 236 (dk_at dksX0_live_5 15 rfl rfl)
theorem dX0_live_136 : decode cX0_live 136 = .ok (.ireturn, 1) := dk_172 (dk_at dksX0_live_5 18 rfl rfl)
abbrev cX0_lived : ByteArray := prog_1_method_100_code
def yX0_lived : MethodName := ⟨RX0, "lived", "(I)I"⟩
def dkwX0_lived_2 : List UInt8 := [27, 46, 172]
abbrev dktX0_lived_2 : List UInt8 := dkwX0_lived_2 ++ []
def dkwX0_lived_1 : List UInt8 := [3, 167, 0, 5, 16, 6, 181, 0, 82, 42, 180, 0, 82, 158, 0, 7, 2, 167, 0, 9, 42, 180, 0, 79]
abbrev dktX0_lived_1 : List UInt8 := dkwX0_lived_1 ++ dktX0_lived_2
def dkwX0_lived_0 : List UInt8 := [42, 27, 133, 9, 20, 1, 239, 184, 0, 170, 154, 0, 7, 4, 167, 0, 16, 42, 180, 1, 233, 153, 0, 7]
abbrev dktX0_lived_0 : List UInt8 := dkwX0_lived_0 ++ dktX0_lived_1
theorem dksX0_lived_0 : cX0_lived.data.toList.drop 0 = dktX0_lived_0 := by decide +kernel
theorem dksX0_lived_1 : cX0_lived.data.toList.drop 24 = dktX0_lived_1 := dk_seg dksX0_lived_0 24 rfl rfl
theorem dksX0_lived_2 : cX0_lived.data.toList.drop 48 = dktX0_lived_2 := dk_seg dksX0_lived_1 24 rfl rfl
theorem dX0_lived_0 : decode cX0_lived 0 = .ok (.aload_n 0, 1) := dk_42 (dk_at dksX0_lived_0 0 rfl rfl)
theorem dX0_lived_1 : decode cX0_lived 1 = .ok (.iload_n 1, 1) := dk_27 (dk_at dksX0_lived_0 1 rfl rfl)
theorem dX0_lived_2 : decode cX0_lived 2 = .ok (.i2l, 1) := dk_133 (dk_at dksX0_lived_0 2 rfl rfl)
theorem dX0_lived_3 : decode cX0_lived 3 = .ok (.lconst 0, 1) := dk_9 (dk_at dksX0_lived_0 3 rfl rfl)
theorem dX0_lived_4 : decode cX0_lived 4 = .ok (.ldc2_w 495, 3) := dk_20 1 239 (dk_at dksX0_lived_0 4 rfl rfl)
theorem dX0_lived_7 : decode cX0_lived 7 = .ok (.invokestatic 170, 3) := dk_184 0 170 (dk_at dksX0_lived_0 7 rfl rfl)
theorem dX0_lived_10 : decode cX0_lived 10 = .ok (.ifCond .ne 7, 3) := dk_154 0 7 (dk_at dksX0_lived_0 10 rfl rfl)
theorem dX0_lived_13 : decode cX0_lived 13 = .ok (.iconst 1, 1) := dk_4 (dk_at dksX0_lived_0 13 rfl rfl)
theorem dX0_lived_14 : decode cX0_lived 14 = .ok (.goto 16, 3) := dk_167 0 16 (dk_at dksX0_lived_0 14 rfl rfl)
theorem dX0_lived_17 : decode cX0_lived 17 = .ok (.aload_n 0, 1) := dk_42 (dk_at dksX0_lived_0 17 rfl rfl)
theorem dX0_lived_18 : decode cX0_lived 18 = .ok (.getfield 489, 3) := dk_180 1 233 (dk_at dksX0_lived_0 18 rfl rfl)
theorem dX0_lived_21 : decode cX0_lived 21 = .ok (.ifCond .eq 7, 3) := dk_153 0 7 (dk_at dksX0_lived_0 21 rfl rfl)
theorem dX0_lived_24 : decode cX0_lived 24 = .ok (.iconst 0, 1) := dk_3 (dk_at dksX0_lived_1 0 rfl rfl)
theorem dX0_lived_25 : decode cX0_lived 25 = .ok (.goto 5, 3) := dk_167 0 5 (dk_at dksX0_lived_1 1 rfl rfl)
theorem dX0_lived_28 : decode cX0_lived 28 = .ok (.bipush 6, 2) := dk_16 6 (dk_at dksX0_lived_1 4 rfl rfl)
theorem dX0_lived_30 : decode cX0_lived 30 = .ok (.putfield 82, 3) := dk_181 0 82 (dk_at dksX0_lived_1 6 rfl rfl)
theorem dX0_lived_33 : decode cX0_lived 33 = .ok (.aload_n 0, 1) := dk_42 (dk_at dksX0_lived_1 9 rfl rfl)
theorem dX0_lived_34 : decode cX0_lived 34 = .ok (.getfield 82, 3) := dk_180 0 82 (dk_at dksX0_lived_1 10 rfl rfl)
theorem dX0_lived_37 : decode cX0_lived 37 = .ok (.ifCond .le 7, 3) := dk_158 0 7 (dk_at dksX0_lived_1 13 rfl rfl)
theorem dX0_lived_40 : decode cX0_lived 40 = .ok (.iconst (-1), 1) := dk_2 (dk_at dksX0_lived_1 16 rfl rfl)
theorem dX0_lived_41 : decode cX0_lived 41 = .ok (.goto 9, 3) := dk_167 0 9 (dk_at dksX0_lived_1 17 rfl rfl)
theorem dX0_lived_44 : decode cX0_lived 44 = .ok (.aload_n 0, 1) := dk_42 (dk_at dksX0_lived_1 20 rfl rfl)
theorem dX0_lived_45 : decode cX0_lived 45 = .ok (.getfield 79, 3) := dk_180 0 79 (dk_at dksX0_lived_1 21 rfl rfl)
theorem dX0_lived_48 : decode cX0_lived 48 = .ok (.iload_n 1, 1) := dk_27 (dk_at dksX0_lived_2 0 rfl rfl)
theorem dX0_lived_49 : decode cX0_lived 49 = .ok (.iaload, 1) := dk_46 (dk_at dksX0_lived_2 1 rfl rfl)
theorem dX0_lived_50 : decode cX0_lived 50 = .ok (.ireturn, 1) := dk_172 (dk_at dksX0_lived_2 2 rfl rfl)
abbrev cX0_mean : ByteArray := prog_1_method_101_code
def yX0_mean : MethodName := ⟨RX0, "mean", "(III)Z"⟩
def dkwX0_mean_6 : List UInt8 := [29, 133, 182, 1, 108, 87, 4, 172]
abbrev dktX0_mean_6 : List UInt8 := dkwX0_mean_6 ++ []
def dkwX0_mean_5 : List UInt8 := [22, 4, 42, 180, 0, 75, 180, 0, 228, 27, 46, 133, 97, 55, 4, 132, 6, 1, 167, 255, 196, 42, 22, 4]
abbrev dktX0_mean_5 : List UInt8 := dkwX0_mean_5 ++ dktX0_mean_6
def dkwX0_mean_4 : List UInt8 := [180, 0, 55, 180, 0, 210, 187, 1, 210, 89, 42, 180, 0, 75, 28, 21, 6, 96, 183, 1, 212, 182, 1, 215]
abbrev dktX0_mean_4 : List UInt8 := dkwX0_mean_4 ++ dktX0_mean_5
def dkwX0_mean_3 : List UInt8 := [9, 55, 4, 3, 54, 6, 21, 6, 29, 162, 0, 60, 42, 180, 0, 75, 42, 182, 0, 163, 182, 0, 207, 42]
abbrev dktX0_mean_3 : List UInt8 := dkwX0_mean_3 ++ dktX0_mean_4
def dkwX0_mean_2 : List UInt8 := [180, 0, 210, 199, 0, 8, 16, 6, 167, 0, 4, 3, 181, 0, 82, 42, 180, 0, 82, 158, 0, 5, 3, 172]
abbrev dktX0_mean_2 : List UInt8 := dkwX0_mean_2 ++ dktX0_mean_3
def dkwX0_mean_1 : List UInt8 := [17, 39, 15, 29, 100, 4, 96, 133, 184, 0, 170, 154, 0, 7, 4, 167, 0, 19, 42, 180, 0, 55]
abbrev dktX0_mean_1 : List UInt8 := dkwX0_mean_1 ++ dktX0_mean_2
def dkwX0_mean_0 : List UInt8 := [42, 42, 27, 182, 0, 174, 153, 0, 32, 29, 133, 10, 20, 1, 241, 184, 0, 170, 153, 0, 20, 28, 133, 9]
abbrev dktX0_mean_0 : List UInt8 := dkwX0_mean_0 ++ dktX0_mean_1
theorem dksX0_mean_0 : cX0_mean.data.toList.drop 0 = dktX0_mean_0 := by decide +kernel
theorem dksX0_mean_1 : cX0_mean.data.toList.drop 24 = dktX0_mean_1 := dk_seg dksX0_mean_0 24 rfl rfl
theorem dksX0_mean_2 : cX0_mean.data.toList.drop 46 = dktX0_mean_2 := dk_seg dksX0_mean_1 22 rfl rfl
theorem dksX0_mean_3 : cX0_mean.data.toList.drop 70 = dktX0_mean_3 := dk_seg dksX0_mean_2 24 rfl rfl
theorem dksX0_mean_4 : cX0_mean.data.toList.drop 94 = dktX0_mean_4 := dk_seg dksX0_mean_3 24 rfl rfl
theorem dksX0_mean_5 : cX0_mean.data.toList.drop 118 = dktX0_mean_5 := dk_seg dksX0_mean_4 24 rfl rfl
theorem dksX0_mean_6 : cX0_mean.data.toList.drop 142 = dktX0_mean_6 := dk_seg dksX0_mean_5 24 rfl rfl
theorem dX0_mean_0 : decode cX0_mean 0 = .ok (.aload_n 0, 1) := dk_42 (dk_at dksX0_mean_0 0 rfl rfl)
theorem dX0_mean_1 : decode cX0_mean 1 = .ok (.aload_n 0, 1) := dk_42 (dk_at dksX0_mean_0 1 rfl rfl)
theorem dX0_mean_2 : decode cX0_mean 2 = .ok (.iload_n 1, 1) := dk_27 (dk_at dksX0_mean_0 2 rfl rfl)
theorem dX0_mean_3 : decode cX0_mean 3 = .ok (.invokevirtual 174, 3) := dk_182 0 174 (dk_at dksX0_mean_0 3 rfl rfl)
theorem dX0_mean_6 : decode cX0_mean 6 = .ok (.ifCond .eq 32, 3) := dk_153 0 32 (dk_at dksX0_mean_0 6 rfl rfl)
theorem dX0_mean_9 : decode cX0_mean 9 = .ok (.iload_n 3, 1) := dk_29 (dk_at dksX0_mean_0 9 rfl rfl)
theorem dX0_mean_10 : decode cX0_mean 10 = .ok (.i2l, 1) := dk_133 (dk_at dksX0_mean_0 10 rfl rfl)
theorem dX0_mean_11 : decode cX0_mean 11 = .ok (.lconst 1, 1) := dk_10 (dk_at dksX0_mean_0 11 rfl rfl)
theorem dX0_mean_12 : decode cX0_mean 12 = .ok (.ldc2_w 497, 3) := dk_20 1 241 (dk_at dksX0_mean_0 12 rfl rfl)
theorem dX0_mean_15 : decode cX0_mean 15 = .ok (.invokestatic 170, 3) := dk_184 0 170 (dk_at dksX0_mean_0 15 rfl rfl)
theorem dX0_mean_18 : decode cX0_mean 18 = .ok (.ifCond .eq 20, 3) := dk_153 0 20 (dk_at dksX0_mean_0 18 rfl rfl)
theorem dX0_mean_21 : decode cX0_mean 21 = .ok (.iload_n 2, 1) := dk_28 (dk_at dksX0_mean_0 21 rfl rfl)
theorem dX0_mean_22 : decode cX0_mean 22 = .ok (.i2l, 1) := dk_133 (dk_at dksX0_mean_0 22 rfl rfl)
theorem dX0_mean_23 : decode cX0_mean 23 = .ok (.lconst 0, 1) := dk_9 (dk_at dksX0_mean_0 23 rfl rfl)
theorem dX0_mean_24 : decode cX0_mean 24 = .ok (.sipush 9999, 3) := dk_17 39 15 (dk_at dksX0_mean_1 0 rfl rfl)
theorem dX0_mean_27 : decode cX0_mean 27 = .ok (.iload_n 3, 1) := dk_29 (dk_at dksX0_mean_1 3 rfl rfl)
theorem dX0_mean_28 : decode cX0_mean 28 = .ok (.isub, 1) := dk_100 (dk_at dksX0_mean_1 4 rfl rfl)
theorem dX0_mean_29 : decode cX0_mean 29 = .ok (.iconst 1, 1) := dk_4 (dk_at dksX0_mean_1 5 rfl rfl)
theorem dX0_mean_30 : decode cX0_mean 30 = .ok (.iadd, 1) := dk_96 (dk_at dksX0_mean_1 6 rfl rfl)
theorem dX0_mean_31 : decode cX0_mean 31 = .ok (.i2l, 1) := dk_133 (dk_at dksX0_mean_1 7 rfl rfl)
theorem dX0_mean_32 : decode cX0_mean 32 = .ok (.invokestatic 170, 3) := dk_184 0 170 (dk_at dksX0_mean_1 8 rfl rfl)
theorem dX0_mean_35 : decode cX0_mean 35 = .ok (.ifCond .ne 7, 3) := dk_154 0 7 (dk_at dksX0_mean_1 11 rfl rfl)
theorem dX0_mean_38 : decode cX0_mean 38 = .ok (.iconst 1, 1) := dk_4 (dk_at dksX0_mean_1 14 rfl rfl)
theorem dX0_mean_39 : decode cX0_mean 39 = .ok (.goto 19, 3) := dk_167 0 19 (dk_at dksX0_mean_1 15 rfl rfl)
theorem dX0_mean_42 : decode cX0_mean 42 = .ok (.aload_n 0, 1) := dk_42 (dk_at dksX0_mean_1 18 rfl rfl)
theorem dX0_mean_43 : decode cX0_mean 43 = .ok (.getfield 55, 3) := dk_180 0 55 (dk_at dksX0_mean_1 19 rfl rfl)
theorem dX0_mean_46 : decode cX0_mean 46 = .ok (.getfield 210, 3) := dk_180 0 210 (dk_at dksX0_mean_2 0 rfl rfl)
theorem dX0_mean_49 : decode cX0_mean 49 = .ok (.ifnonnull 8, 3) := dk_199 0 8 (dk_at dksX0_mean_2 3 rfl rfl)
theorem dX0_mean_52 : decode cX0_mean 52 = .ok (.bipush 6, 2) := dk_16 6 (dk_at dksX0_mean_2 6 rfl rfl)
theorem dX0_mean_54 : decode cX0_mean 54 = .ok (.goto 4, 3) := dk_167 0 4 (dk_at dksX0_mean_2 8 rfl rfl)
theorem dX0_mean_57 : decode cX0_mean 57 = .ok (.iconst 0, 1) := dk_3 (dk_at dksX0_mean_2 11 rfl rfl)
theorem dX0_mean_58 : decode cX0_mean 58 = .ok (.putfield 82, 3) := dk_181 0 82 (dk_at dksX0_mean_2 12 rfl rfl)
theorem dX0_mean_61 : decode cX0_mean 61 = .ok (.aload_n 0, 1) := dk_42 (dk_at dksX0_mean_2 15 rfl rfl)
theorem dX0_mean_62 : decode cX0_mean 62 = .ok (.getfield 82, 3) := dk_180 0 82 (dk_at dksX0_mean_2 16 rfl rfl)
theorem dX0_mean_65 : decode cX0_mean 65 = .ok (.ifCond .le 5, 3) := dk_158 0 5 (dk_at dksX0_mean_2 19 rfl rfl)
theorem dX0_mean_68 : decode cX0_mean 68 = .ok (.iconst 0, 1) := dk_3 (dk_at dksX0_mean_2 22 rfl rfl)
theorem dX0_mean_69 : decode cX0_mean 69 = .ok (.ireturn, 1) := dk_172 (dk_at dksX0_mean_2 23 rfl rfl)
theorem dX0_mean_70 : decode cX0_mean 70 = .ok (.lconst 0, 1) := dk_9 (dk_at dksX0_mean_3 0 rfl rfl)
theorem dX0_mean_71 : decode cX0_mean 71 = .ok (.lstore 4, 2) := dk_55 4 (dk_at dksX0_mean_3 1 rfl rfl)
theorem dX0_mean_73 : decode cX0_mean 73 = .ok (.iconst 0, 1) := dk_3 (dk_at dksX0_mean_3 3 rfl rfl)
theorem dX0_mean_74 : decode cX0_mean 74 = .ok (.istore 6, 2) := dk_54 6 (dk_at dksX0_mean_3 4 rfl rfl)
theorem dX0_mean_76 : decode cX0_mean 76 = .ok (.iload 6, 2) := dk_21 6 (dk_at dksX0_mean_3 6 rfl rfl)
theorem dX0_mean_78 : decode cX0_mean 78 = .ok (.iload_n 3, 1) := dk_29 (dk_at dksX0_mean_3 8 rfl rfl)
theorem dX0_mean_79 : decode cX0_mean 79 = .ok (.if_icmp .ge 60, 3) := dk_162 0 60 (dk_at dksX0_mean_3 9 rfl rfl)
theorem dX0_mean_82 : decode cX0_mean 82 = .ok (.aload_n 0, 1) := dk_42 (dk_at dksX0_mean_3 12 rfl rfl)
theorem dX0_mean_83 : decode cX0_mean 83 = .ok (.getfield 75, 3) := dk_180 0 75 (dk_at dksX0_mean_3 13 rfl rfl)
theorem dX0_mean_86 : decode cX0_mean 86 = .ok (.aload_n 0, 1) := dk_42 (dk_at dksX0_mean_3 16 rfl rfl)
theorem dX0_mean_87 : decode cX0_mean 87 = .ok (.invokevirtual 163, 3) := dk_182 0 163 (dk_at dksX0_mean_3 17 rfl rfl)
theorem dX0_mean_90 : decode cX0_mean 90 = .ok (.invokevirtual 207, 3) := dk_182 0 207 (dk_at dksX0_mean_3 20 rfl rfl)
theorem dX0_mean_93 : decode cX0_mean 93 = .ok (.aload_n 0, 1) := dk_42 (dk_at dksX0_mean_3 23 rfl rfl)
theorem dX0_mean_94 : decode cX0_mean 94 = .ok (.getfield 55, 3) := dk_180 0 55 (dk_at dksX0_mean_4 0 rfl rfl)
theorem dX0_mean_97 : decode cX0_mean 97 = .ok (.getfield 210, 3) := dk_180 0 210 (dk_at dksX0_mean_4 3 rfl rfl)
theorem dX0_mean_100 : decode cX0_mean 100 = .ok (.new 466, 3) := dk_187 1 210 (dk_at dksX0_mean_4 6 rfl rfl)
theorem dX0_mean_103 : decode cX0_mean 103 = .ok (.dup, 1) := dk_89 (dk_at dksX0_mean_4 9 rfl rfl)
theorem dX0_mean_104 : decode cX0_mean 104 = .ok (.aload_n 0, 1) := dk_42 (dk_at dksX0_mean_4 10 rfl rfl)
theorem dX0_mean_105 : decode cX0_mean 105 = .ok (.getfield 75, 3) := dk_180 0 75 (dk_at dksX0_mean_4 11 rfl rfl)
theorem dX0_mean_108 : decode cX0_mean 108 = .ok (.iload_n 2, 1) := dk_28 (dk_at dksX0_mean_4 14 rfl rfl)
theorem dX0_mean_109 : decode cX0_mean 109 = .ok (.iload 6, 2) := dk_21 6 (dk_at dksX0_mean_4 15 rfl rfl)
theorem dX0_mean_111 : decode cX0_mean 111 = .ok (.iadd, 1) := dk_96 (dk_at dksX0_mean_4 17 rfl rfl)
theorem dX0_mean_112 : decode cX0_mean 112 = .ok (.invokespecial 468, 3) := dk_183 1 212 (dk_at dksX0_mean_4 18 rfl rfl)
theorem dX0_mean_115 : decode cX0_mean 115 = .ok (.invokevirtual 471, 3) := dk_182 1 215 (dk_at dksX0_mean_4 21 rfl rfl)
theorem dX0_mean_118 : decode cX0_mean 118 = .ok (.lload 4, 2) := dk_22 4 (dk_at dksX0_mean_5 0 rfl rfl)
theorem dX0_mean_120 : decode cX0_mean 120 = .ok (.aload_n 0, 1) := dk_42 (dk_at dksX0_mean_5 2 rfl rfl)
theorem dX0_mean_121 : decode cX0_mean 121 = .ok (.getfield 75, 3) := dk_180 0 75 (dk_at dksX0_mean_5 3 rfl rfl)
theorem dX0_mean_124 : decode cX0_mean 124 = .ok (.getfield 228, 3) := dk_180 0 228 (dk_at dksX0_mean_5 6 rfl rfl)
theorem dX0_mean_127 : decode cX0_mean 127 = .ok (.iload_n 1, 1) := dk_27 (dk_at dksX0_mean_5 9 rfl rfl)
theorem dX0_mean_128 : decode cX0_mean 128 = .ok (.iaload, 1) := dk_46 (dk_at dksX0_mean_5 10 rfl rfl)
theorem dX0_mean_129 : decode cX0_mean 129 = .ok (.i2l, 1) := dk_133 (dk_at dksX0_mean_5 11 rfl rfl)
theorem dX0_mean_130 : decode cX0_mean 130 = .ok (.ladd, 1) := dk_97 (dk_at dksX0_mean_5 12 rfl rfl)
theorem dX0_mean_131 : decode cX0_mean 131 = .ok (.lstore 4, 2) := dk_55 4 (dk_at dksX0_mean_5 13 rfl rfl)
theorem dX0_mean_133 : decode cX0_mean 133 = .ok (.iinc 6 1, 3) := dk_132 6 1 (dk_at dksX0_mean_5 15 rfl rfl)
theorem dX0_mean_136 : decode cX0_mean 136 = .ok (.goto (-60), 3) := dk_167 255 196 (dk_at dksX0_mean_5 18 rfl rfl)
theorem dX0_mean_139 : decode cX0_mean 139 = .ok (.aload_n 0, 1) := dk_42 (dk_at dksX0_mean_5 21 rfl rfl)
theorem dX0_mean_140 : decode cX0_mean 140 = .ok (.lload 4, 2) := dk_22 4 (dk_at dksX0_mean_5 22 rfl rfl)
theorem dX0_mean_142 : decode cX0_mean 142 = .ok (.iload_n 3, 1) := dk_29 (dk_at dksX0_mean_6 0 rfl rfl)
theorem dX0_mean_143 : decode cX0_mean 143 = .ok (.i2l, 1) := dk_133 (dk_at dksX0_mean_6 1 rfl rfl)
theorem dX0_mean_144 : decode cX0_mean 144 = .ok (.invokevirtual 364, 3) := dk_182 1 108 (dk_at dksX0_mean_6 2 rfl rfl)
theorem dX0_mean_147 : decode cX0_mean 147 = .ok (.pop, 1) := dk_87 (dk_at dksX0_mean_6 5 rfl rfl)
theorem dX0_mean_148 : decode cX0_mean 148 = .ok (.iconst 1, 1) := dk_4 (dk_at dksX0_mean_6 6 rfl rfl)
theorem dX0_mean_149 : decode cX0_mean 149 = .ok (.ireturn, 1) := dk_172 (dk_at dksX0_mean_6 7 rfl rfl)
abbrev cX0_mark : ByteArray := prog_1_method_102_code
def yX0_mark : MethodName := ⟨RX0, "mark", "()I"⟩
def dkwX0_mark_3 : List UInt8 := [42, 89, 180, 1, 243, 4, 96, 181, 1, 243, 42, 180, 1, 243, 172]
abbrev dktX0_mark_3 : List UInt8 := dkwX0_mark_3 ++ []
def dkwX0_mark_2 : List UInt8 := [187, 0, 52, 89, 183, 0, 54, 83, 42, 180, 0, 59, 42, 180, 1, 243, 50, 42, 180, 0, 55, 182, 1, 246]
abbrev dktX0_mark_2 : List UInt8 := dkwX0_mark_2 ++ dktX0_mark_3
def dkwX0_mark_1 : List UInt8 := [2, 172, 42, 180, 0, 59, 42, 180, 1, 243, 50, 199, 0, 19, 42, 180, 0, 59, 42, 180, 1, 243]
abbrev dktX0_mark_1 : List UInt8 := dkwX0_mark_1 ++ dktX0_mark_2
def dkwX0_mark_0 : List UInt8 := [42, 42, 180, 1, 243, 6, 160, 0, 7, 7, 167, 0, 4, 3, 181, 0, 82, 42, 180, 0, 82, 158, 0, 5]
abbrev dktX0_mark_0 : List UInt8 := dkwX0_mark_0 ++ dktX0_mark_1
theorem dksX0_mark_0 : cX0_mark.data.toList.drop 0 = dktX0_mark_0 := by decide +kernel
theorem dksX0_mark_1 : cX0_mark.data.toList.drop 24 = dktX0_mark_1 := dk_seg dksX0_mark_0 24 rfl rfl
theorem dksX0_mark_2 : cX0_mark.data.toList.drop 46 = dktX0_mark_2 := dk_seg dksX0_mark_1 22 rfl rfl
theorem dksX0_mark_3 : cX0_mark.data.toList.drop 70 = dktX0_mark_3 := dk_seg dksX0_mark_2 24 rfl rfl
theorem dX0_mark_0 : decode cX0_mark 0 = .ok (.aload_n 0, 1) := dk_42 (dk_at dksX0_mark_0 0 rfl rfl)
theorem dX0_mark_1 : decode cX0_mark 1 = .ok (.aload_n 0, 1) := dk_42 (dk_at dksX0_mark_0 1 rfl rfl)
theorem dX0_mark_2 : decode cX0_mark 2 = .ok (.getfield 499, 3) := dk_180 1 243 (dk_at dksX0_mark_0 2 rfl rfl)
theorem dX0_mark_5 : decode cX0_mark 5 = .ok (.iconst 3, 1) := dk_6 (dk_at dksX0_mark_0 5 rfl rfl)
theorem dX0_mark_6 : decode cX0_mark 6 = .ok (.if_icmp .ne 7, 3) := dk_160 0 7 (dk_at dksX0_mark_0 6 rfl rfl)
theorem dX0_mark_9 : decode cX0_mark 9 = .ok (.iconst 4, 1) := dk_7 (dk_at dksX0_mark_0 9 rfl rfl)
theorem dX0_mark_10 : decode cX0_mark 10 = .ok (.goto 4, 3) := dk_167 0 4 (dk_at dksX0_mark_0 10 rfl rfl)
theorem dX0_mark_13 : decode cX0_mark 13 = .ok (.iconst 0, 1) := dk_3 (dk_at dksX0_mark_0 13 rfl rfl)
theorem dX0_mark_14 : decode cX0_mark 14 = .ok (.putfield 82, 3) := dk_181 0 82 (dk_at dksX0_mark_0 14 rfl rfl)
theorem dX0_mark_17 : decode cX0_mark 17 = .ok (.aload_n 0, 1) := dk_42 (dk_at dksX0_mark_0 17 rfl rfl)
theorem dX0_mark_18 : decode cX0_mark 18 = .ok (.getfield 82, 3) := dk_180 0 82 (dk_at dksX0_mark_0 18 rfl rfl)
theorem dX0_mark_21 : decode cX0_mark 21 = .ok (.ifCond .le 5, 3) := dk_158 0 5 (dk_at dksX0_mark_0 21 rfl rfl)
theorem dX0_mark_24 : decode cX0_mark 24 = .ok (.iconst (-1), 1) := dk_2 (dk_at dksX0_mark_1 0 rfl rfl)
theorem dX0_mark_25 : decode cX0_mark 25 = .ok (.ireturn, 1) := dk_172 (dk_at dksX0_mark_1 1 rfl rfl)
theorem dX0_mark_26 : decode cX0_mark 26 = .ok (.aload_n 0, 1) := dk_42 (dk_at dksX0_mark_1 2 rfl rfl)
theorem dX0_mark_27 : decode cX0_mark 27 = .ok (.getfield 59, 3) := dk_180 0 59 (dk_at dksX0_mark_1 3 rfl rfl)
theorem dX0_mark_30 : decode cX0_mark 30 = .ok (.aload_n 0, 1) := dk_42 (dk_at dksX0_mark_1 6 rfl rfl)
theorem dX0_mark_31 : decode cX0_mark 31 = .ok (.getfield 499, 3) := dk_180 1 243 (dk_at dksX0_mark_1 7 rfl rfl)
theorem dX0_mark_34 : decode cX0_mark 34 = .ok (.aaload, 1) := dk_50 (dk_at dksX0_mark_1 10 rfl rfl)
theorem dX0_mark_35 : decode cX0_mark 35 = .ok (.ifnonnull 19, 3) := dk_199 0 19 (dk_at dksX0_mark_1 11 rfl rfl)
theorem dX0_mark_38 : decode cX0_mark 38 = .ok (.aload_n 0, 1) := dk_42 (dk_at dksX0_mark_1 14 rfl rfl)
theorem dX0_mark_39 : decode cX0_mark 39 = .ok (.getfield 59, 3) := dk_180 0 59 (dk_at dksX0_mark_1 15 rfl rfl)
theorem dX0_mark_42 : decode cX0_mark 42 = .ok (.aload_n 0, 1) := dk_42 (dk_at dksX0_mark_1 18 rfl rfl)
theorem dX0_mark_43 : decode cX0_mark 43 = .ok (.getfield 499, 3) := dk_180 1 243 (dk_at dksX0_mark_1 19 rfl rfl)
theorem dX0_mark_46 : decode cX0_mark 46 = .ok (.new 52, 3) := dk_187 0 52 (dk_at dksX0_mark_2 0 rfl rfl)
theorem dX0_mark_49 : decode cX0_mark 49 = .ok (.dup, 1) := dk_89 (dk_at dksX0_mark_2 3 rfl rfl)
theorem dX0_mark_50 : decode cX0_mark 50 = .ok (.invokespecial 54, 3) := dk_183 0 54 (dk_at dksX0_mark_2 4 rfl rfl)
theorem dX0_mark_53 : decode cX0_mark 53 = .ok (.aastore, 1) := dk_83 (dk_at dksX0_mark_2 7 rfl rfl)
theorem dX0_mark_54 : decode cX0_mark 54 = .ok (.aload_n 0, 1) := dk_42 (dk_at dksX0_mark_2 8 rfl rfl)
theorem dX0_mark_55 : decode cX0_mark 55 = .ok (.getfield 59, 3) := dk_180 0 59 (dk_at dksX0_mark_2 9 rfl rfl)
theorem dX0_mark_58 : decode cX0_mark 58 = .ok (.aload_n 0, 1) := dk_42 (dk_at dksX0_mark_2 12 rfl rfl)
theorem dX0_mark_59 : decode cX0_mark 59 = .ok (.getfield 499, 3) := dk_180 1 243 (dk_at dksX0_mark_2 13 rfl rfl)
theorem dX0_mark_62 : decode cX0_mark 62 = .ok (.aaload, 1) := dk_50 (dk_at dksX0_mark_2 16 rfl rfl)
theorem dX0_mark_63 : decode cX0_mark 63 = .ok (.aload_n 0, 1) := dk_42 (dk_at dksX0_mark_2 17 rfl rfl)
theorem dX0_mark_64 : decode cX0_mark 64 = .ok (.getfield 55, 3) := dk_180 0 55 (dk_at dksX0_mark_2 18 rfl rfl)
theorem dX0_mark_67 : decode cX0_mark 67 = .ok (.invokevirtual 502, 3) := dk_182 1 246 (dk_at dksX0_mark_2 21 rfl rfl)
theorem dX0_mark_70 : decode cX0_mark 70 = .ok (.aload_n 0, 1) := dk_42 (dk_at dksX0_mark_3 0 rfl rfl)
theorem dX0_mark_71 : decode cX0_mark 71 = .ok (.dup, 1) := dk_89 (dk_at dksX0_mark_3 1 rfl rfl)
theorem dX0_mark_72 : decode cX0_mark 72 = .ok (.getfield 499, 3) := dk_180 1 243 (dk_at dksX0_mark_3 2 rfl rfl)
theorem dX0_mark_75 : decode cX0_mark 75 = .ok (.iconst 1, 1) := dk_4 (dk_at dksX0_mark_3 5 rfl rfl)
theorem dX0_mark_76 : decode cX0_mark 76 = .ok (.iadd, 1) := dk_96 (dk_at dksX0_mark_3 6 rfl rfl)
theorem dX0_mark_77 : decode cX0_mark 77 = .ok (.putfield 499, 3) := dk_181 1 243 (dk_at dksX0_mark_3 7 rfl rfl)
theorem dX0_mark_80 : decode cX0_mark 80 = .ok (.aload_n 0, 1) := dk_42 (dk_at dksX0_mark_3 10 rfl rfl)
theorem dX0_mark_81 : decode cX0_mark 81 = .ok (.getfield 499, 3) := dk_180 1 243 (dk_at dksX0_mark_3 11 rfl rfl)
theorem dX0_mark_84 : decode cX0_mark 84 = .ok (.ireturn, 1) := dk_172 (dk_at dksX0_mark_3 14 rfl rfl)
abbrev cX0_back : ByteArray := prog_1_method_103_code
def yX0_back : MethodName := ⟨RX0, "back", "()I"⟩
def dkwX0_back_2 : List UInt8 := [50, 182, 1, 246, 42, 180, 1, 243, 172]
abbrev dktX0_back_2 : List UInt8 := dkwX0_back_2 ++ []
def dkwX0_back_1 : List UInt8 := [2, 172, 42, 89, 180, 1, 243, 4, 100, 181, 1, 243, 42, 180, 0, 55, 42, 180, 0, 59, 42, 180, 1, 243]
abbrev dktX0_back_1 : List UInt8 := dkwX0_back_1 ++ dktX0_back_2
def dkwX0_back_0 : List UInt8 := [42, 42, 180, 1, 243, 154, 0, 8, 16, 6, 167, 0, 4, 3, 181, 0, 82, 42, 180, 0, 82, 158, 0, 5]
abbrev dktX0_back_0 : List UInt8 := dkwX0_back_0 ++ dktX0_back_1
theorem dksX0_back_0 : cX0_back.data.toList.drop 0 = dktX0_back_0 := by decide +kernel
theorem dksX0_back_1 : cX0_back.data.toList.drop 24 = dktX0_back_1 := dk_seg dksX0_back_0 24 rfl rfl
theorem dksX0_back_2 : cX0_back.data.toList.drop 48 = dktX0_back_2 := dk_seg dksX0_back_1 24 rfl rfl
theorem dX0_back_0 : decode cX0_back 0 = .ok (.aload_n 0, 1) := dk_42 (dk_at dksX0_back_0 0 rfl rfl)
theorem dX0_back_1 : decode cX0_back 1 = .ok (.aload_n 0, 1) := dk_42 (dk_at dksX0_back_0 1 rfl rfl)
theorem dX0_back_2 : decode cX0_back 2 = .ok (.getfield 499, 3) := dk_180 1 243 (dk_at dksX0_back_0 2 rfl rfl)
theorem dX0_back_5 : decode cX0_back 5 = .ok (.ifCond .ne 8, 3) := dk_154 0 8 (dk_at dksX0_back_0 5 rfl rfl)
theorem dX0_back_8 : decode cX0_back 8 = .ok (.bipush 6, 2) := dk_16 6 (dk_at dksX0_back_0 8 rfl rfl)
theorem dX0_back_10 : decode cX0_back 10 = .ok (.goto 4, 3) := dk_167 0 4 (dk_at dksX0_back_0 10 rfl rfl)
theorem dX0_back_13 : decode cX0_back 13 = .ok (.iconst 0, 1) := dk_3 (dk_at dksX0_back_0 13 rfl rfl)
theorem dX0_back_14 : decode cX0_back 14 = .ok (.putfield 82, 3) := dk_181 0 82 (dk_at dksX0_back_0 14 rfl rfl)
theorem dX0_back_17 : decode cX0_back 17 = .ok (.aload_n 0, 1) := dk_42 (dk_at dksX0_back_0 17 rfl rfl)
theorem dX0_back_18 : decode cX0_back 18 = .ok (.getfield 82, 3) := dk_180 0 82 (dk_at dksX0_back_0 18 rfl rfl)
theorem dX0_back_21 : decode cX0_back 21 = .ok (.ifCond .le 5, 3) := dk_158 0 5 (dk_at dksX0_back_0 21 rfl rfl)
theorem dX0_back_24 : decode cX0_back 24 = .ok (.iconst (-1), 1) := dk_2 (dk_at dksX0_back_1 0 rfl rfl)
theorem dX0_back_25 : decode cX0_back 25 = .ok (.ireturn, 1) := dk_172 (dk_at dksX0_back_1 1 rfl rfl)
theorem dX0_back_26 : decode cX0_back 26 = .ok (.aload_n 0, 1) := dk_42 (dk_at dksX0_back_1 2 rfl rfl)
theorem dX0_back_27 : decode cX0_back 27 = .ok (.dup, 1) := dk_89 (dk_at dksX0_back_1 3 rfl rfl)
theorem dX0_back_28 : decode cX0_back 28 = .ok (.getfield 499, 3) := dk_180 1 243 (dk_at dksX0_back_1 4 rfl rfl)
theorem dX0_back_31 : decode cX0_back 31 = .ok (.iconst 1, 1) := dk_4 (dk_at dksX0_back_1 7 rfl rfl)
theorem dX0_back_32 : decode cX0_back 32 = .ok (.isub, 1) := dk_100 (dk_at dksX0_back_1 8 rfl rfl)
theorem dX0_back_33 : decode cX0_back 33 = .ok (.putfield 499, 3) := dk_181 1 243 (dk_at dksX0_back_1 9 rfl rfl)
theorem dX0_back_36 : decode cX0_back 36 = .ok (.aload_n 0, 1) := dk_42 (dk_at dksX0_back_1 12 rfl rfl)
theorem dX0_back_37 : decode cX0_back 37 = .ok (.getfield 55, 3) := dk_180 0 55 (dk_at dksX0_back_1 13 rfl rfl)
theorem dX0_back_40 : decode cX0_back 40 = .ok (.aload_n 0, 1) := dk_42 (dk_at dksX0_back_1 16 rfl rfl)
theorem dX0_back_41 : decode cX0_back 41 = .ok (.getfield 59, 3) := dk_180 0 59 (dk_at dksX0_back_1 17 rfl rfl)
theorem dX0_back_44 : decode cX0_back 44 = .ok (.aload_n 0, 1) := dk_42 (dk_at dksX0_back_1 20 rfl rfl)
theorem dX0_back_45 : decode cX0_back 45 = .ok (.getfield 499, 3) := dk_180 1 243 (dk_at dksX0_back_1 21 rfl rfl)
theorem dX0_back_48 : decode cX0_back 48 = .ok (.aaload, 1) := dk_50 (dk_at dksX0_back_2 0 rfl rfl)
theorem dX0_back_49 : decode cX0_back 49 = .ok (.invokevirtual 502, 3) := dk_182 1 246 (dk_at dksX0_back_2 1 rfl rfl)
theorem dX0_back_52 : decode cX0_back 52 = .ok (.aload_n 0, 1) := dk_42 (dk_at dksX0_back_2 4 rfl rfl)
theorem dX0_back_53 : decode cX0_back 53 = .ok (.getfield 499, 3) := dk_180 1 243 (dk_at dksX0_back_2 5 rfl rfl)
theorem dX0_back_56 : decode cX0_back 56 = .ok (.ireturn, 1) := dk_172 (dk_at dksX0_back_2 8 rfl rfl)
theorem q144 : (Jvm.Cond.initialized "LetMe") ∈ lw_all := lw_g (lw_at lw_m1 1 rfl) rfl
theorem q174 : (Jvm.Cond.instantiable "LetMe" (23 : Nat)) ∈ lw_all := lw_g (lw_at lw_m1 31 rfl) rfl
theorem q176 : (Jvm.Cond.instanceMethod ({ cls := "LetMe", name := "<init>", desc := "()V" } : Jvm.MethodName)) ∈ lw_all := lw_g (lw_at lw_m1 33 rfl) rfl
theorem q177 : (Jvm.Cond.code ({ cls := "LetMe", name := "<init>", desc := "()V" } : Jvm.MethodName) prog_1_method_6_code (1 : Nat) (Option.none : Option Jvm.ClassFile.FieldType)) ∈ lw_all := lw_g (lw_at lw_m1 34 rfl) rfl
theorem q178 : (Jvm.Cond.methodLink "LetMe" (9 : Nat) ({ cls := "java/lang/Object", name := "<init>", desc := "()V" } : Jvm.MethodName)) ∈ lw_all := lw_g (lw_at lw_m1 35 rfl) rfl
theorem q181 : (Jvm.Cond.classLink "LetMe" (15 : Nat) "LetMe$Tray") ∈ lw_all := lw_g (lw_at lw_m1 38 rfl) rfl
theorem q184 : (Jvm.Cond.methodLinkNest "LetMe" (17 : Nat) ({ cls := "LetMe$Tray", name := "<init>", desc := "()V" } : Jvm.MethodName) "LetMe") ∈ lw_tbl := lw_at lw_m1 41 rfl
theorem q188 : (Jvm.Cond.fieldLinkNest "LetMe" (111 : Nat) "LetMe$Tray" "row" "Ljava/lang/Object;" "LetMe") ∈ lw_tbl := lw_at lw_m1 45 rfl
theorem q192 : (Jvm.Cond.classLink "LetMe" (34 : Nat) "LetMe$Bad") ∈ lw_all := lw_g (lw_at lw_m1 49 rfl) rfl
theorem q232 : (Jvm.Cond.methodLink "LetMe" (36 : Nat) ({ cls := "LetMe$Bad", name := "<init>", desc := "()V" } : Jvm.MethodName)) ∈ lw_all := lw_g (lw_at lw_m1 89 rfl) rfl
theorem q242 : (Jvm.Cond.fieldLinkNest "LetMe" (189 : Nat) "LetMe$Bad" "kind" "I" "LetMe") ∈ lw_tbl := lw_at lw_m1 99 rfl
theorem q244 : (Jvm.Cond.fieldLinkNest "LetMe" (192 : Nat) "LetMe$Bad" "place" "I" "LetMe") ∈ lw_tbl := lw_at lw_m1 101 rfl
theorem q263 : (Jvm.Cond.classLink "LetMe" (41 : Nat) "LetMe$Refused") ∈ lw_all := lw_g (lw_at lw_m1 120 rfl) rfl
theorem q272 : (Jvm.Cond.methodLink "LetMe" (43 : Nat) ({ cls := "LetMe$Refused", name := "<init>", desc := "()V" } : Jvm.MethodName)) ∈ lw_all := lw_g (lw_at lw_m1 129 rfl) rfl
theorem q277 : (Jvm.Cond.fieldLinkNest "LetMe" (92 : Nat) "LetMe$Refused" "why" "I" "LetMe") ∈ lw_tbl := lw_at lw_m1 134 rfl
theorem q282 : (Jvm.Cond.classLink "LetMe" (52 : Nat) "LetMe$House") ∈ lw_all := lw_g (lw_at lw_m1 139 rfl) rfl
theorem q284 : (Jvm.Cond.methodLinkNest "LetMe" (54 : Nat) ({ cls := "LetMe$House", name := "<init>", desc := "()V" } : Jvm.MethodName) "LetMe") ∈ lw_tbl := lw_at lw_m1 141 rfl
theorem q298 : (Jvm.Cond.fieldLinkNest "LetMe" (159 : Nat) "LetMe$Table" "person" "[LLetMe$Person;" "LetMe") ∈ lw_tbl := lw_at lw_m1 155 rfl
theorem q303 : (Jvm.Cond.fieldLinkNest "LetMe" (167 : Nat) "LetMe$Table" "people" "I" "LetMe") ∈ lw_tbl := lw_at lw_m1 160 rfl
theorem q306 : (Jvm.Cond.fieldLinkNest "LetMe" (233 : Nat) "LetMe$Table" "couples" "I" "LetMe") ∈ lw_tbl := lw_at lw_m1 163 rfl
theorem q309 : (Jvm.Cond.fieldLinkNest "LetMe" (236 : Nat) "LetMe$Table" "dishes" "I" "LetMe") ∈ lw_tbl := lw_at lw_m1 166 rfl
theorem q312 : (Jvm.Cond.fieldLinkNest "LetMe" (239 : Nat) "LetMe$Table" "split" "I" "LetMe") ∈ lw_tbl := lw_at lw_m1 169 rfl
theorem q316 : (Jvm.Cond.fieldLinkNest "LetMe" (242 : Nat) "LetMe$Table" "law" "I" "LetMe") ∈ lw_tbl := lw_at lw_m1 173 rfl
theorem q318 : (Jvm.Cond.fieldLinkNest "LetMe" (261 : Nat) "LetMe$Table" "rounds" "I" "LetMe") ∈ lw_tbl := lw_at lw_m1 175 rfl
theorem q320 : (Jvm.Cond.fieldLinkNest "LetMe" (264 : Nat) "LetMe$Table" "gifts" "I" "LetMe") ∈ lw_tbl := lw_at lw_m1 177 rfl
theorem q323 : (Jvm.Cond.fieldLinkNest "LetMe" (270 : Nat) "LetMe$Table" "inside" "I" "LetMe") ∈ lw_tbl := lw_at lw_m1 180 rfl
theorem q325 : (Jvm.Cond.fieldLinkNest "LetMe" (299 : Nat) "LetMe$Table" "price" "[I" "LetMe") ∈ lw_tbl := lw_at lw_m1 182 rfl
theorem q327 : (Jvm.Cond.fieldLinkNest "LetMe" (302 : Nat) "LetMe$Table" "by" "[I" "LetMe") ∈ lw_tbl := lw_at lw_m1 184 rfl
theorem q330 : (Jvm.Cond.fieldLinkNest "LetMe" (228 : Nat) "LetMe$Table" "paid" "[I" "LetMe") ∈ lw_tbl := lw_at lw_m1 187 rfl
theorem q332 : (Jvm.Cond.fieldLinkNest "LetMe" (411 : Nat) "LetMe$Table" "owes" "[I" "LetMe") ∈ lw_tbl := lw_at lw_m1 189 rfl
theorem q334 : (Jvm.Cond.fieldLinkNest "LetMe" (428 : Nat) "LetMe$Table" "drinks" "[I" "LetMe") ∈ lw_tbl := lw_at lw_m1 191 rfl
theorem q366 : (Jvm.Cond.fieldLinkNest "LetMe" (156 : Nat) "LetMe$House" "table" "LLetMe$Table;" "LetMe") ∈ lw_tbl := lw_at lw_m1 223 rfl
theorem q368 : (Jvm.Cond.fieldLinkNest "LetMe" (210 : Nat) "LetMe$House" "year" "LLetMe$Loop;" "LetMe") ∈ lw_tbl := lw_at lw_m1 225 rfl
theorem q375 : (Jvm.Cond.classLink "LetMe" (72 : Nat) "LetMe$Table") ∈ lw_all := lw_g (lw_at lw_m1 232 rfl) rfl
theorem q376 : (Jvm.Cond.methodLinkNest "LetMe" (74 : Nat) ({ cls := "LetMe$Table", name := "<init>", desc := "()V" } : Jvm.MethodName) "LetMe") ∈ lw_tbl := lw_at lw_m1 233 rfl
theorem q377 : (Jvm.Cond.fieldLink "LetMe" (18 : Nat) "LetMe" "trays" "[LLetMe$Tray;") ∈ lw_all := lw_g (lw_at lw_m1 234 rfl) rfl
theorem q379 : (Jvm.Cond.fieldLink "LetMe" (24 : Nat) "LetMe" "tape" "[B") ∈ lw_all := lw_g (lw_at lw_m1 236 rfl) rfl
theorem q380 : (Jvm.Cond.fieldLink "LetMe" (182 : Nat) "LetMe" "taped" "I") ∈ lw_all := lw_g (lw_at lw_m1 237 rfl) rfl
theorem q381 : (Jvm.Cond.fieldLink "LetMe" (27 : Nat) "LetMe" "faultKind" "I") ∈ lw_all := lw_g (lw_at lw_m1 238 rfl) rfl
theorem q382 : (Jvm.Cond.fieldLink "LetMe" (31 : Nat) "LetMe" "faultAt" "I") ∈ lw_all := lw_g (lw_at lw_m1 239 rfl) rfl
theorem q383 : (Jvm.Cond.fieldLink "LetMe" (37 : Nat) "LetMe" "bad" "LLetMe$Bad;") ∈ lw_all := lw_g (lw_at lw_m2 0 rfl) rfl
theorem q385 : (Jvm.Cond.fieldLink "LetMe" (44 : Nat) "LetMe" "refused" "LLetMe$Refused;") ∈ lw_all := lw_g (lw_at lw_m2 2 rfl) rfl
theorem q386 : (Jvm.Cond.fieldLink "LetMe" (82 : Nat) "LetMe" "status" "I") ∈ lw_all := lw_g (lw_at lw_m2 3 rfl) rfl
theorem q387 : (Jvm.Cond.fieldLink "LetMe" (85 : Nat) "LetMe" "above" "J") ∈ lw_all := lw_g (lw_at lw_m2 4 rfl) rfl
theorem q388 : (Jvm.Cond.fieldLink "LetMe" (48 : Nat) "LetMe" "under" "J") ∈ lw_all := lw_g (lw_at lw_m2 5 rfl) rfl
theorem q389 : (Jvm.Cond.fieldLink "LetMe" (55 : Nat) "LetMe" "now" "LLetMe$House;") ∈ lw_all := lw_g (lw_at lw_m2 6 rfl) rfl
theorem q390 : (Jvm.Cond.fieldLink "LetMe" (59 : Nat) "LetMe" "marks" "[LLetMe$House;") ∈ lw_all := lw_g (lw_at lw_m2 7 rfl) rfl
theorem q391 : (Jvm.Cond.fieldLink "LetMe" (499 : Nat) "LetMe" "markMany" "I") ∈ lw_all := lw_g (lw_at lw_m2 8 rfl) rfl
theorem q392 : (Jvm.Cond.fieldLink "LetMe" (328 : Nat) "LetMe" "sets" "I") ∈ lw_all := lw_g (lw_at lw_m2 9 rfl) rfl
theorem q393 : (Jvm.Cond.fieldLink "LetMe" (331 : Nat) "LetMe" "fewest" "I") ∈ lw_all := lw_g (lw_at lw_m2 10 rfl) rfl
theorem q394 : (Jvm.Cond.fieldLink "LetMe" (334 : Nat) "LetMe" "fewestSet" "I") ∈ lw_all := lw_g (lw_at lw_m2 11 rfl) rfl
theorem q395 : (Jvm.Cond.fieldLink "LetMe" (63 : Nat) "LetMe" "groups" "[I") ∈ lw_all := lw_g (lw_at lw_m2 12 rfl) rfl
theorem q396 : (Jvm.Cond.fieldLink "LetMe" (66 : Nat) "LetMe" "balances" "[I") ∈ lw_all := lw_g (lw_at lw_m2 13 rfl) rfl
theorem q397 : (Jvm.Cond.fieldLink "LetMe" (69 : Nat) "LetMe" "simple" "[I") ∈ lw_all := lw_g (lw_at lw_m2 14 rfl) rfl
theorem q398 : (Jvm.Cond.fieldLink "LetMe" (75 : Nat) "LetMe" "aside" "LLetMe$Table;") ∈ lw_all := lw_g (lw_at lw_m2 15 rfl) rfl
theorem q399 : (Jvm.Cond.fieldLink "LetMe" (445 : Nat) "LetMe" "given" "I") ∈ lw_all := lw_g (lw_at lw_m2 16 rfl) rfl
theorem q400 : (Jvm.Cond.fieldLink "LetMe" (79 : Nat) "LetMe" "last" "[I") ∈ lw_all := lw_g (lw_at lw_m2 17 rfl) rfl
theorem q401 : (Jvm.Cond.fieldLink "LetMe" (489 : Nat) "LetMe" "hasLived" "Z") ∈ lw_all := lw_g (lw_at lw_m2 18 rfl) rfl
theorem q402 : (Jvm.Cond.laysFinal "LetMe" "LetMe" "trays" "[LLetMe$Tray;") ∈ lw_all := lw_g (lw_at lw_m2 19 rfl) rfl
theorem q403 : (Jvm.Cond.soleField "LetMe" "trays") ∈ lw_all := lw_g (lw_at lw_m2 20 rfl) rfl
theorem q404 : (Jvm.Cond.laysFinal "LetMe" "LetMe" "tape" "[B") ∈ lw_all := lw_g (lw_at lw_m2 21 rfl) rfl
theorem q405 : (Jvm.Cond.soleField "LetMe" "tape") ∈ lw_all := lw_g (lw_at lw_m2 22 rfl) rfl
theorem q406 : (Jvm.Cond.lays "LetMe" "LetMe" "taped" "I") ∈ lw_all := lw_g (lw_at lw_m2 23 rfl) rfl
theorem q407 : (Jvm.Cond.soleField "LetMe" "taped") ∈ lw_all := lw_g (lw_at lw_m2 24 rfl) rfl
theorem q408 : (Jvm.Cond.lays "LetMe" "LetMe" "faultKind" "I") ∈ lw_all := lw_g (lw_at lw_m2 25 rfl) rfl
theorem q409 : (Jvm.Cond.soleField "LetMe" "faultKind") ∈ lw_all := lw_g (lw_at lw_m2 26 rfl) rfl
theorem q410 : (Jvm.Cond.lays "LetMe" "LetMe" "faultAt" "I") ∈ lw_all := lw_g (lw_at lw_m2 27 rfl) rfl
theorem q411 : (Jvm.Cond.soleField "LetMe" "faultAt") ∈ lw_all := lw_g (lw_at lw_m2 28 rfl) rfl
theorem q412 : (Jvm.Cond.laysFinal "LetMe" "LetMe" "bad" "LLetMe$Bad;") ∈ lw_all := lw_g (lw_at lw_m2 29 rfl) rfl
theorem q413 : (Jvm.Cond.soleField "LetMe" "bad") ∈ lw_all := lw_g (lw_at lw_m2 30 rfl) rfl
theorem q414 : (Jvm.Cond.laysFinal "LetMe" "LetMe" "refused" "LLetMe$Refused;") ∈ lw_all := lw_g (lw_at lw_m2 31 rfl) rfl
theorem q415 : (Jvm.Cond.soleField "LetMe" "refused") ∈ lw_all := lw_g (lw_at lw_m2 32 rfl) rfl
theorem q416 : (Jvm.Cond.lays "LetMe" "LetMe" "status" "I") ∈ lw_all := lw_g (lw_at lw_m2 33 rfl) rfl
theorem q417 : (Jvm.Cond.soleField "LetMe" "status") ∈ lw_all := lw_g (lw_at lw_m2 34 rfl) rfl
theorem q418 : (Jvm.Cond.lays "LetMe" "LetMe" "above" "J") ∈ lw_all := lw_g (lw_at lw_m2 35 rfl) rfl
theorem q419 : (Jvm.Cond.soleField "LetMe" "above") ∈ lw_all := lw_g (lw_at lw_m2 36 rfl) rfl
theorem q420 : (Jvm.Cond.lays "LetMe" "LetMe" "under" "J") ∈ lw_all := lw_g (lw_at lw_m2 37 rfl) rfl
theorem q421 : (Jvm.Cond.soleField "LetMe" "under") ∈ lw_all := lw_g (lw_at lw_m2 38 rfl) rfl
theorem q422 : (Jvm.Cond.laysFinal "LetMe" "LetMe" "now" "LLetMe$House;") ∈ lw_all := lw_g (lw_at lw_m2 39 rfl) rfl
theorem q423 : (Jvm.Cond.soleField "LetMe" "now") ∈ lw_all := lw_g (lw_at lw_m2 40 rfl) rfl
theorem q424 : (Jvm.Cond.laysFinal "LetMe" "LetMe" "marks" "[LLetMe$House;") ∈ lw_all := lw_g (lw_at lw_m2 41 rfl) rfl
theorem q425 : (Jvm.Cond.soleField "LetMe" "marks") ∈ lw_all := lw_g (lw_at lw_m2 42 rfl) rfl
theorem q426 : (Jvm.Cond.lays "LetMe" "LetMe" "markMany" "I") ∈ lw_all := lw_g (lw_at lw_m2 43 rfl) rfl
theorem q427 : (Jvm.Cond.soleField "LetMe" "markMany") ∈ lw_all := lw_g (lw_at lw_m2 44 rfl) rfl
theorem q428 : (Jvm.Cond.lays "LetMe" "LetMe" "sets" "I") ∈ lw_all := lw_g (lw_at lw_m2 45 rfl) rfl
theorem q429 : (Jvm.Cond.soleField "LetMe" "sets") ∈ lw_all := lw_g (lw_at lw_m2 46 rfl) rfl
theorem q430 : (Jvm.Cond.lays "LetMe" "LetMe" "fewest" "I") ∈ lw_all := lw_g (lw_at lw_m2 47 rfl) rfl
theorem q431 : (Jvm.Cond.soleField "LetMe" "fewest") ∈ lw_all := lw_g (lw_at lw_m2 48 rfl) rfl
theorem q432 : (Jvm.Cond.lays "LetMe" "LetMe" "fewestSet" "I") ∈ lw_all := lw_g (lw_at lw_m2 49 rfl) rfl
theorem q433 : (Jvm.Cond.soleField "LetMe" "fewestSet") ∈ lw_all := lw_g (lw_at lw_m2 50 rfl) rfl
theorem q434 : (Jvm.Cond.laysFinal "LetMe" "LetMe" "groups" "[I") ∈ lw_all := lw_g (lw_at lw_m2 51 rfl) rfl
theorem q435 : (Jvm.Cond.soleField "LetMe" "groups") ∈ lw_all := lw_g (lw_at lw_m2 52 rfl) rfl
theorem q436 : (Jvm.Cond.laysFinal "LetMe" "LetMe" "balances" "[I") ∈ lw_all := lw_g (lw_at lw_m2 53 rfl) rfl
theorem q437 : (Jvm.Cond.soleField "LetMe" "balances") ∈ lw_all := lw_g (lw_at lw_m2 54 rfl) rfl
theorem q438 : (Jvm.Cond.laysFinal "LetMe" "LetMe" "simple" "[I") ∈ lw_all := lw_g (lw_at lw_m2 55 rfl) rfl
theorem q439 : (Jvm.Cond.soleField "LetMe" "simple") ∈ lw_all := lw_g (lw_at lw_m2 56 rfl) rfl
theorem q440 : (Jvm.Cond.laysFinal "LetMe" "LetMe" "aside" "LLetMe$Table;") ∈ lw_all := lw_g (lw_at lw_m2 57 rfl) rfl
theorem q441 : (Jvm.Cond.soleField "LetMe" "aside") ∈ lw_all := lw_g (lw_at lw_m2 58 rfl) rfl
theorem q442 : (Jvm.Cond.lays "LetMe" "LetMe" "given" "I") ∈ lw_all := lw_g (lw_at lw_m2 59 rfl) rfl
theorem q443 : (Jvm.Cond.soleField "LetMe" "given") ∈ lw_all := lw_g (lw_at lw_m2 60 rfl) rfl
theorem q444 : (Jvm.Cond.laysFinal "LetMe" "LetMe" "last" "[I") ∈ lw_all := lw_g (lw_at lw_m2 61 rfl) rfl
theorem q445 : (Jvm.Cond.soleField "LetMe" "last") ∈ lw_all := lw_g (lw_at lw_m2 62 rfl) rfl
theorem q446 : (Jvm.Cond.lays "LetMe" "LetMe" "hasLived" "Z") ∈ lw_all := lw_g (lw_at lw_m2 63 rfl) rfl
theorem q447 : (Jvm.Cond.soleField "LetMe" "hasLived") ∈ lw_all := lw_g (lw_at lw_m2 64 rfl) rfl
theorem q448 : (Jvm.Cond.superclass "LetMe" "java/lang/Object") ∈ lw_all := lw_g (lw_at lw_m2 65 rfl) rfl
theorem q450 : (Jvm.Cond.instanceMethod ({ cls := "LetMe", name := "status", desc := "()I" } : Jvm.MethodName)) ∈ lw_all := lw_g (lw_at lw_m2 67 rfl) rfl
theorem q451 : (Jvm.Cond.selects "LetMe" ({ cls := "LetMe", name := "status", desc := "()I" } : Jvm.MethodName) ({ cls := "LetMe", name := "status", desc := "()I" } : Jvm.MethodName)) ∈ lw_all := lw_g (lw_at lw_m2 68 rfl) rfl
theorem q452 : (Jvm.Cond.code ({ cls := "LetMe", name := "status", desc := "()I" } : Jvm.MethodName) prog_1_method_7_code (1 : Nat) (Option.some Jvm.ClassFile.FieldType.int)) ∈ lw_all := lw_g (lw_at lw_m2 69 rfl) rfl
theorem q454 : (Jvm.Cond.instanceMethod ({ cls := "LetMe", name := "top", desc := "()J" } : Jvm.MethodName)) ∈ lw_all := lw_g (lw_at lw_m2 71 rfl) rfl
theorem q455 : (Jvm.Cond.selects "LetMe" ({ cls := "LetMe", name := "top", desc := "()J" } : Jvm.MethodName) ({ cls := "LetMe", name := "top", desc := "()J" } : Jvm.MethodName)) ∈ lw_all := lw_g (lw_at lw_m2 72 rfl) rfl
theorem q456 : (Jvm.Cond.code ({ cls := "LetMe", name := "top", desc := "()J" } : Jvm.MethodName) prog_1_method_8_code (1 : Nat) (Option.some Jvm.ClassFile.FieldType.long)) ∈ lw_all := lw_g (lw_at lw_m2 73 rfl) rfl
theorem q458 : (Jvm.Cond.instanceMethod ({ cls := "LetMe", name := "bottom", desc := "()J" } : Jvm.MethodName)) ∈ lw_all := lw_g (lw_at lw_m2 75 rfl) rfl
theorem q459 : (Jvm.Cond.selects "LetMe" ({ cls := "LetMe", name := "bottom", desc := "()J" } : Jvm.MethodName) ({ cls := "LetMe", name := "bottom", desc := "()J" } : Jvm.MethodName)) ∈ lw_all := lw_g (lw_at lw_m2 76 rfl) rfl
theorem q460 : (Jvm.Cond.code ({ cls := "LetMe", name := "bottom", desc := "()J" } : Jvm.MethodName) prog_1_method_9_code (1 : Nat) (Option.some Jvm.ClassFile.FieldType.long)) ∈ lw_all := lw_g (lw_at lw_m2 77 rfl) rfl
theorem q462 : (Jvm.Cond.instanceMethod ({ cls := "LetMe", name := "tray", desc := "(III)Z" } : Jvm.MethodName)) ∈ lw_all := lw_g (lw_at lw_m2 79 rfl) rfl
theorem q463 : (Jvm.Cond.selects "LetMe" ({ cls := "LetMe", name := "tray", desc := "(III)Z" } : Jvm.MethodName) ({ cls := "LetMe", name := "tray", desc := "(III)Z" } : Jvm.MethodName)) ∈ lw_all := lw_g (lw_at lw_m2 80 rfl) rfl
theorem q464 : (Jvm.Cond.codeWith ({ cls := "LetMe", name := "tray", desc := "(III)Z" } : Jvm.MethodName) prog_1_method_15_code (5 : Nat) (Option.some Jvm.ClassFile.FieldType.boolean) [((5 : Nat), (54 : Nat), (55 : Nat), (118 : Nat)), ((5 : Nat), (54 : Nat), (64 : Nat), (41 : Nat))]) ∈ lw_all := lw_g (lw_at lw_m2 81 rfl) rfl
theorem q465 : (Jvm.Cond.classLink "LetMe" (118 : Nat) "java/lang/NegativeArraySizeException") ∈ lw_all := lw_g (lw_at lw_m2 82 rfl) rfl
theorem q494 : (Jvm.Cond.methodLink "LetMe" (107 : Nat) ({ cls := "LetMe", name := "want", desc := "(ZI)V" } : Jvm.MethodName)) ∈ lw_all := lw_g (lw_at lw_m2 111 rfl) rfl
theorem q495 : (Jvm.Cond.privateMethod ({ cls := "LetMe", name := "want", desc := "(ZI)V" } : Jvm.MethodName)) ∈ lw_tbl := lw_at lw_m2 112 rfl
theorem q496 : (Jvm.Cond.instanceMethod ({ cls := "LetMe", name := "want", desc := "(ZI)V" } : Jvm.MethodName)) ∈ lw_all := lw_g (lw_at lw_m2 113 rfl) rfl
theorem q497 : (Jvm.Cond.code ({ cls := "LetMe", name := "want", desc := "(ZI)V" } : Jvm.MethodName) prog_1_method_10_code (3 : Nat) (Option.none : Option Jvm.ClassFile.FieldType)) ∈ lw_all := lw_g (lw_at lw_m2 114 rfl) rfl
theorem q498 : (Jvm.Cond.methodLink "LetMe" (88 : Nat) ({ cls := "LetMe$Refused", name := "by", desc := "(I)LLetMe$Refused;" } : Jvm.MethodName)) ∈ lw_all := lw_g (lw_at lw_m2 115 rfl) rfl
theorem q502 : (Jvm.Cond.methodLink "LetMe" (115 : Nat) ({ cls := "LetMe", name := "row", desc := "(II)Ljava/lang/Object;" } : Jvm.MethodName)) ∈ lw_all := lw_g (lw_at lw_m2 119 rfl) rfl
theorem q503 : (Jvm.Cond.static ({ cls := "LetMe", name := "row", desc := "(II)Ljava/lang/Object;" } : Jvm.MethodName)) ∈ lw_all := lw_g (lw_at lw_m2 120 rfl) rfl
theorem q504 : (Jvm.Cond.code ({ cls := "LetMe", name := "row", desc := "(II)Ljava/lang/Object;" } : Jvm.MethodName) prog_1_method_1_code (2 : Nat) (Option.some (Jvm.ClassFile.FieldType.object "java/lang/Object"))) ∈ lw_all := lw_g (lw_at lw_m2 121 rfl) rfl
theorem q505 : (Jvm.Cond.methodLink "LetMe" (120 : Nat) ({ cls := "LetMe", name := "no", desc := "(LLetMe$Refused;)Z" } : Jvm.MethodName)) ∈ lw_all := lw_g (lw_at lw_m2 122 rfl) rfl
theorem q506 : (Jvm.Cond.privateMethod ({ cls := "LetMe", name := "no", desc := "(LLetMe$Refused;)Z" } : Jvm.MethodName)) ∈ lw_tbl := lw_at lw_m2 123 rfl
theorem q507 : (Jvm.Cond.instanceMethod ({ cls := "LetMe", name := "no", desc := "(LLetMe$Refused;)Z" } : Jvm.MethodName)) ∈ lw_all := lw_g (lw_at lw_m2 124 rfl) rfl
theorem q508 : (Jvm.Cond.code ({ cls := "LetMe", name := "no", desc := "(LLetMe$Refused;)Z" } : Jvm.MethodName) prog_1_method_12_code (2 : Nat) (Option.some Jvm.ClassFile.FieldType.boolean)) ∈ lw_all := lw_g (lw_at lw_m2 125 rfl) rfl
theorem q512 : (Jvm.Cond.instanceMethod ({ cls := "LetMe", name := "write", desc := "(IIJ)Z" } : Jvm.MethodName)) ∈ lw_all := lw_g (lw_at lw_m2 129 rfl) rfl
theorem q513 : (Jvm.Cond.selects "LetMe" ({ cls := "LetMe", name := "write", desc := "(IIJ)Z" } : Jvm.MethodName) ({ cls := "LetMe", name := "write", desc := "(IIJ)Z" } : Jvm.MethodName)) ∈ lw_all := lw_g (lw_at lw_m2 130 rfl) rfl
theorem q514 : (Jvm.Cond.codeWith ({ cls := "LetMe", name := "write", desc := "(IIJ)Z" } : Jvm.MethodName) prog_1_method_16_code (6 : Nat) (Option.some Jvm.ClassFile.FieldType.boolean) [((5 : Nat), (16 : Nat), (17 : Nat), (132 : Nat)), ((5 : Nat), (16 : Nat), (26 : Nat), (41 : Nat))]) ∈ lw_all := lw_g (lw_at lw_m2 131 rfl) rfl
theorem q515 : (Jvm.Cond.classLink "LetMe" (132 : Nat) "java/lang/ArrayIndexOutOfBoundsException") ∈ lw_all := lw_g (lw_at lw_m2 132 rfl) rfl
theorem q534 : (Jvm.Cond.methodLink "LetMe" (124 : Nat) ({ cls := "LetMe", name := "on", desc := "(I)Ljava/lang/Object;" } : Jvm.MethodName)) ∈ lw_all := lw_g (lw_at lw_m2 151 rfl) rfl
theorem q535 : (Jvm.Cond.privateMethod ({ cls := "LetMe", name := "on", desc := "(I)Ljava/lang/Object;" } : Jvm.MethodName)) ∈ lw_tbl := lw_at lw_m2 152 rfl
theorem q536 : (Jvm.Cond.instanceMethod ({ cls := "LetMe", name := "on", desc := "(I)Ljava/lang/Object;" } : Jvm.MethodName)) ∈ lw_all := lw_g (lw_at lw_m2 153 rfl) rfl
theorem q537 : (Jvm.Cond.code ({ cls := "LetMe", name := "on", desc := "(I)Ljava/lang/Object;" } : Jvm.MethodName) prog_1_method_14_code (2 : Nat) (Option.some (Jvm.ClassFile.FieldType.object "java/lang/Object"))) ∈ lw_all := lw_g (lw_at lw_m2 154 rfl) rfl
theorem q538 : (Jvm.Cond.methodLink "LetMe" (128 : Nat) ({ cls := "LetMe", name := "put", desc := "(Ljava/lang/Object;IJ)V" } : Jvm.MethodName)) ∈ lw_all := lw_g (lw_at lw_m2 155 rfl) rfl
theorem q539 : (Jvm.Cond.static ({ cls := "LetMe", name := "put", desc := "(Ljava/lang/Object;IJ)V" } : Jvm.MethodName)) ∈ lw_all := lw_g (lw_at lw_m2 156 rfl) rfl
theorem q540 : (Jvm.Cond.code ({ cls := "LetMe", name := "put", desc := "(Ljava/lang/Object;IJ)V" } : Jvm.MethodName) prog_1_method_5_code (7 : Nat) (Option.none : Option Jvm.ClassFile.FieldType)) ∈ lw_all := lw_g (lw_at lw_m2 157 rfl) rfl
theorem q541 : (Jvm.Cond.classLink "LetMe" (1 : Nat) "[B") ∈ lw_all := lw_g (lw_at lw_m2 158 rfl) rfl
theorem q542 : (Jvm.Cond.classLink "LetMe" (3 : Nat) "[S") ∈ lw_all := lw_g (lw_at lw_m2 159 rfl) rfl
theorem q543 : (Jvm.Cond.classLink "LetMe" (5 : Nat) "[I") ∈ lw_all := lw_g (lw_at lw_m2 160 rfl) rfl
theorem q544 : (Jvm.Cond.classLink "LetMe" (7 : Nat) "[J") ∈ lw_all := lw_g (lw_at lw_m2 161 rfl) rfl
theorem q546 : (Jvm.Cond.instanceMethod ({ cls := "LetMe", name := "read", desc := "(II)J" } : Jvm.MethodName)) ∈ lw_all := lw_g (lw_at lw_m2 163 rfl) rfl
theorem q547 : (Jvm.Cond.selects "LetMe" ({ cls := "LetMe", name := "read", desc := "(II)J" } : Jvm.MethodName) ({ cls := "LetMe", name := "read", desc := "(II)J" } : Jvm.MethodName)) ∈ lw_all := lw_g (lw_at lw_m2 164 rfl) rfl
theorem q548 : (Jvm.Cond.codeWith ({ cls := "LetMe", name := "read", desc := "(II)J" } : Jvm.MethodName) prog_1_method_17_code (4 : Nat) (Option.some Jvm.ClassFile.FieldType.long) [((5 : Nat), (14 : Nat), (15 : Nat), (132 : Nat)), ((5 : Nat), (14 : Nat), (25 : Nat), (41 : Nat))]) ∈ lw_all := lw_g (lw_at lw_m2 165 rfl) rfl
theorem q549 : (Jvm.Cond.methodLink "LetMe" (134 : Nat) ({ cls := "LetMe", name := "number", desc := "(Ljava/lang/Object;I)J" } : Jvm.MethodName)) ∈ lw_all := lw_g (lw_at lw_m2 166 rfl) rfl
theorem q550 : (Jvm.Cond.static ({ cls := "LetMe", name := "number", desc := "(Ljava/lang/Object;I)J" } : Jvm.MethodName)) ∈ lw_all := lw_g (lw_at lw_m2 167 rfl) rfl
theorem q551 : (Jvm.Cond.code ({ cls := "LetMe", name := "number", desc := "(Ljava/lang/Object;I)J" } : Jvm.MethodName) prog_1_method_4_code (3 : Nat) (Option.some Jvm.ClassFile.FieldType.long)) ∈ lw_all := lw_g (lw_at lw_m2 168 rfl) rfl
theorem q552 : (Jvm.Cond.constantLong "LetMe" (138 : Nat) (-1 : Int64)) ∈ lw_all := lw_g (lw_at lw_m2 169 rfl) rfl
theorem q553 : (Jvm.Cond.methodLink "LetMe" (140 : Nat) ({ cls := "LetMe", name := "none", desc := "(LLetMe$Refused;)I" } : Jvm.MethodName)) ∈ lw_all := lw_g (lw_at lw_m2 170 rfl) rfl
theorem q554 : (Jvm.Cond.privateMethod ({ cls := "LetMe", name := "none", desc := "(LLetMe$Refused;)I" } : Jvm.MethodName)) ∈ lw_tbl := lw_at lw_m2 171 rfl
theorem q555 : (Jvm.Cond.instanceMethod ({ cls := "LetMe", name := "none", desc := "(LLetMe$Refused;)I" } : Jvm.MethodName)) ∈ lw_all := lw_g (lw_at lw_m2 172 rfl) rfl
theorem q556 : (Jvm.Cond.code ({ cls := "LetMe", name := "none", desc := "(LLetMe$Refused;)I" } : Jvm.MethodName) prog_1_method_11_code (2 : Nat) (Option.some Jvm.ClassFile.FieldType.int)) ∈ lw_all := lw_g (lw_at lw_m2 173 rfl) rfl
theorem q558 : (Jvm.Cond.instanceMethod ({ cls := "LetMe", name := "pour", desc := "(IIIII)Z" } : Jvm.MethodName)) ∈ lw_all := lw_g (lw_at lw_m2 175 rfl) rfl
theorem q559 : (Jvm.Cond.selects "LetMe" ({ cls := "LetMe", name := "pour", desc := "(IIIII)Z" } : Jvm.MethodName) ({ cls := "LetMe", name := "pour", desc := "(IIIII)Z" } : Jvm.MethodName)) ∈ lw_all := lw_g (lw_at lw_m2 176 rfl) rfl
theorem q560 : (Jvm.Cond.codeWith ({ cls := "LetMe", name := "pour", desc := "(IIIII)Z" } : Jvm.MethodName) prog_1_method_18_code (9 : Nat) (Option.some Jvm.ClassFile.FieldType.boolean) [((85 : Nat), (97 : Nat), (100 : Nat), (154 : Nat)), ((5 : Nat), (112 : Nat), (113 : Nat), (41 : Nat))]) ∈ lw_all := lw_g (lw_at lw_m2 177 rfl) rfl
theorem q561 : (Jvm.Cond.classLink "LetMe" (154 : Nat) "java/lang/IndexOutOfBoundsException") ∈ lw_all := lw_g (lw_at lw_m2 178 rfl) rfl
theorem q562 : (Jvm.Cond.methodLink "LetMe" (144 : Nat) ({ cls := "LetMe", name := "sortOf", desc := "(Ljava/lang/Object;)I" } : Jvm.MethodName)) ∈ lw_all := lw_g (lw_at lw_m2 179 rfl) rfl
theorem q563 : (Jvm.Cond.static ({ cls := "LetMe", name := "sortOf", desc := "(Ljava/lang/Object;)I" } : Jvm.MethodName)) ∈ lw_all := lw_g (lw_at lw_m2 180 rfl) rfl
theorem q564 : (Jvm.Cond.code ({ cls := "LetMe", name := "sortOf", desc := "(Ljava/lang/Object;)I" } : Jvm.MethodName) prog_1_method_2_code (1 : Nat) (Option.some Jvm.ClassFile.FieldType.int)) ∈ lw_all := lw_g (lw_at lw_m2 181 rfl) rfl
theorem q565 : (Jvm.Cond.methodLink "LetMe" (148 : Nat) ({ cls := "java/lang/System", name := "arraycopy", desc := "(Ljava/lang/Object;ILjava/lang/Object;II)V" } : Jvm.MethodName)) ∈ lw_all := lw_g (lw_at lw_m2 182 rfl) rfl
theorem q569 : (Jvm.Cond.instanceMethod ({ cls := "LetMe", name := "feed", desc := "(IIIII)I" } : Jvm.MethodName)) ∈ lw_all := lw_g (lw_at lw_m2 186 rfl) rfl
theorem q570 : (Jvm.Cond.selects "LetMe" ({ cls := "LetMe", name := "feed", desc := "(IIIII)I" } : Jvm.MethodName) ({ cls := "LetMe", name := "feed", desc := "(IIIII)I" } : Jvm.MethodName)) ∈ lw_all := lw_g (lw_at lw_m2 187 rfl) rfl
theorem q571 : (Jvm.Cond.code ({ cls := "LetMe", name := "feed", desc := "(IIIII)I" } : Jvm.MethodName) prog_1_method_28_code (6 : Nat) (Option.some Jvm.ClassFile.FieldType.int)) ∈ lw_all := lw_g (lw_at lw_m2 188 rfl) rfl
theorem q572 : (Jvm.Cond.methodLink "LetMe" (185 : Nat) ({ cls := "LetMe", name := "lay", desc := "(I)V" } : Jvm.MethodName)) ∈ lw_all := lw_g (lw_at lw_m2 189 rfl) rfl
theorem q573 : (Jvm.Cond.privateMethod ({ cls := "LetMe", name := "lay", desc := "(I)V" } : Jvm.MethodName)) ∈ lw_tbl := lw_at lw_m2 190 rfl
theorem q574 : (Jvm.Cond.instanceMethod ({ cls := "LetMe", name := "lay", desc := "(I)V" } : Jvm.MethodName)) ∈ lw_all := lw_g (lw_at lw_m2 191 rfl) rfl
theorem q575 : (Jvm.Cond.code ({ cls := "LetMe", name := "lay", desc := "(I)V" } : Jvm.MethodName) prog_1_method_29_code (3 : Nat) (Option.none : Option Jvm.ClassFile.FieldType)) ∈ lw_all := lw_g (lw_at lw_m2 192 rfl) rfl
theorem q577 : (Jvm.Cond.instanceMethod ({ cls := "LetMe", name := "table", desc := "(I)I" } : Jvm.MethodName)) ∈ lw_all := lw_g (lw_at lw_m2 194 rfl) rfl
theorem q578 : (Jvm.Cond.selects "LetMe" ({ cls := "LetMe", name := "table", desc := "(I)I" } : Jvm.MethodName) ({ cls := "LetMe", name := "table", desc := "(I)I" } : Jvm.MethodName)) ∈ lw_all := lw_g (lw_at lw_m2 195 rfl) rfl
theorem q579 : (Jvm.Cond.codeWith ({ cls := "LetMe", name := "table", desc := "(I)I" } : Jvm.MethodName) prog_1_method_32_code (3 : Nat) (Option.some Jvm.ClassFile.FieldType.int) [((13 : Nat), (54 : Nat), (55 : Nat), (34 : Nat))]) ∈ lw_all := lw_g (lw_at lw_m2 196 rfl) rfl
theorem q580 : (Jvm.Cond.methodLink "LetMe" (195 : Nat) ({ cls := "LetMe", name := "opens", desc := "(II)Z" } : Jvm.MethodName)) ∈ lw_all := lw_g (lw_at lw_m2 197 rfl) rfl
theorem q581 : (Jvm.Cond.privateMethod ({ cls := "LetMe", name := "opens", desc := "(II)Z" } : Jvm.MethodName)) ∈ lw_tbl := lw_at lw_m2 198 rfl
theorem q582 : (Jvm.Cond.instanceMethod ({ cls := "LetMe", name := "opens", desc := "(II)Z" } : Jvm.MethodName)) ∈ lw_all := lw_g (lw_at lw_m2 199 rfl) rfl
theorem q583 : (Jvm.Cond.code ({ cls := "LetMe", name := "opens", desc := "(II)Z" } : Jvm.MethodName) prog_1_method_30_code (3 : Nat) (Option.some Jvm.ClassFile.FieldType.boolean)) ∈ lw_all := lw_g (lw_at lw_m2 200 rfl) rfl
theorem q584 : (Jvm.Cond.classLink "LetMe" (199 : Nat) "LetMe$Reader") ∈ lw_all := lw_g (lw_at lw_m2 201 rfl) rfl
theorem q586 : (Jvm.Cond.methodLink "LetMe" (201 : Nat) ({ cls := "LetMe$Reader", name := "<init>", desc := "(LLetMe;I)V" } : Jvm.MethodName)) ∈ lw_all := lw_g (lw_at lw_m2 203 rfl) rfl
theorem q608 : (Jvm.Cond.fieldLinkNest "LetMe" (225 : Nat) "LetMe$Reader" "steps" "I" "LetMe") ∈ lw_tbl := lw_at lw_m2 225 rfl
theorem q631 : (Jvm.Cond.methodLink "LetMe" (204 : Nat) ({ cls := "LetMe$Reader", name := "table", desc := "(LLetMe$Table;)V" } : Jvm.MethodName)) ∈ lw_all := lw_g (lw_at lw_m3 8 rfl) rfl
theorem q769 : (Jvm.Cond.fieldLinkNest "LetMe" (279 : Nat) "LetMe$Person" "insists" "I" "LetMe") ∈ lw_tbl := lw_at lw_m3 146 rfl
theorem q774 : (Jvm.Cond.fieldLinkNest "LetMe" (284 : Nat) "LetMe$Person" "quick" "I" "LetMe") ∈ lw_tbl := lw_at lw_m3 151 rfl
theorem q776 : (Jvm.Cond.fieldLinkNest "LetMe" (287 : Nat) "LetMe$Person" "minds" "I" "LetMe") ∈ lw_tbl := lw_at lw_m3 153 rfl
theorem q779 : (Jvm.Cond.fieldLinkNest "LetMe" (290 : Nat) "LetMe$Person" "means" "I" "LetMe") ∈ lw_tbl := lw_at lw_m3 156 rfl
theorem q783 : (Jvm.Cond.fieldLinkNest "LetMe" (293 : Nat) "LetMe$Person" "mate" "I" "LetMe") ∈ lw_tbl := lw_at lw_m3 160 rfl
theorem q865 : (Jvm.Cond.methodLink "LetMe" (163 : Nat) ({ cls := "LetMe", name := "at", desc := "()LLetMe$Table;" } : Jvm.MethodName)) ∈ lw_all := lw_g (lw_at lw_m4 2 rfl) rfl
theorem q866 : (Jvm.Cond.privateMethod ({ cls := "LetMe", name := "at", desc := "()LLetMe$Table;" } : Jvm.MethodName)) ∈ lw_tbl := lw_at lw_m4 3 rfl
theorem q867 : (Jvm.Cond.instanceMethod ({ cls := "LetMe", name := "at", desc := "()LLetMe$Table;" } : Jvm.MethodName)) ∈ lw_all := lw_g (lw_at lw_m4 4 rfl) rfl
theorem q868 : (Jvm.Cond.code ({ cls := "LetMe", name := "at", desc := "()LLetMe$Table;" } : Jvm.MethodName) prog_1_method_20_code (1 : Nat) (Option.some (Jvm.ClassFile.FieldType.object "LetMe$Table"))) ∈ lw_all := lw_g (lw_at lw_m4 5 rfl) rfl
theorem q869 : (Jvm.Cond.methodLink "LetMe" (207 : Nat) ({ cls := "LetMe$Table", name := "be", desc := "(LLetMe$Table;)V" } : Jvm.MethodName)) ∈ lw_all := lw_g (lw_at lw_m4 6 rfl) rfl
theorem q873 : (Jvm.Cond.methodLink "LetMe" (214 : Nat) ({ cls := "LetMe", name := "faulty", desc := "(LLetMe$Bad;)I" } : Jvm.MethodName)) ∈ lw_all := lw_g (lw_at lw_m4 10 rfl) rfl
theorem q874 : (Jvm.Cond.privateMethod ({ cls := "LetMe", name := "faulty", desc := "(LLetMe$Bad;)I" } : Jvm.MethodName)) ∈ lw_tbl := lw_at lw_m4 11 rfl
theorem q875 : (Jvm.Cond.instanceMethod ({ cls := "LetMe", name := "faulty", desc := "(LLetMe$Bad;)I" } : Jvm.MethodName)) ∈ lw_all := lw_g (lw_at lw_m4 12 rfl) rfl
theorem q876 : (Jvm.Cond.code ({ cls := "LetMe", name := "faulty", desc := "(LLetMe$Bad;)I" } : Jvm.MethodName) prog_1_method_31_code (2 : Nat) (Option.some Jvm.ClassFile.FieldType.int)) ∈ lw_all := lw_g (lw_at lw_m4 13 rfl) rfl
theorem q878 : (Jvm.Cond.instanceMethod ({ cls := "LetMe", name := "year", desc := "(I)I" } : Jvm.MethodName)) ∈ lw_all := lw_g (lw_at lw_m4 15 rfl) rfl
theorem q879 : (Jvm.Cond.selects "LetMe" ({ cls := "LetMe", name := "year", desc := "(I)I" } : Jvm.MethodName) ({ cls := "LetMe", name := "year", desc := "(I)I" } : Jvm.MethodName)) ∈ lw_all := lw_g (lw_at lw_m4 16 rfl) rfl
theorem q880 : (Jvm.Cond.codeWith ({ cls := "LetMe", name := "year", desc := "(I)I" } : Jvm.MethodName) prog_1_method_33_code (4 : Nat) (Option.some Jvm.ClassFile.FieldType.int) [((13 : Nat), (53 : Nat), (54 : Nat), (34 : Nat))]) ∈ lw_all := lw_g (lw_at lw_m4 17 rfl) rfl
theorem q881 : (Jvm.Cond.classLink "LetMe" (218 : Nat) "LetMe$Loop") ∈ lw_all := lw_g (lw_at lw_m4 18 rfl) rfl
theorem q883 : (Jvm.Cond.methodLink "LetMe" (220 : Nat) ({ cls := "LetMe$Loop", name := "<init>", desc := "(I)V" } : Jvm.MethodName)) ∈ lw_all := lw_g (lw_at lw_m4 20 rfl) rfl
theorem q905 : (Jvm.Cond.methodLink "LetMe" (222 : Nat) ({ cls := "LetMe$Reader", name := "year", desc := "(LLetMe$Table;LLetMe$Block;)V" } : Jvm.MethodName)) ∈ lw_all := lw_g (lw_at lw_m4 42 rfl) rfl
theorem q986 : (Jvm.Cond.instanceMethod ({ cls := "LetMe", name := "fault", desc := "(I)I" } : Jvm.MethodName)) ∈ lw_all := lw_g (lw_at lw_m4 123 rfl) rfl
theorem q987 : (Jvm.Cond.selects "LetMe" ({ cls := "LetMe", name := "fault", desc := "(I)I" } : Jvm.MethodName) ({ cls := "LetMe", name := "fault", desc := "(I)I" } : Jvm.MethodName)) ∈ lw_all := lw_g (lw_at lw_m4 124 rfl) rfl
theorem q988 : (Jvm.Cond.code ({ cls := "LetMe", name := "fault", desc := "(I)I" } : Jvm.MethodName) prog_1_method_34_code (2 : Nat) (Option.some Jvm.ClassFile.FieldType.int)) ∈ lw_all := lw_g (lw_at lw_m4 125 rfl) rfl
theorem q990 : (Jvm.Cond.instanceMethod ({ cls := "LetMe", name := "told", desc := "(I)I" } : Jvm.MethodName)) ∈ lw_all := lw_g (lw_at lw_m4 127 rfl) rfl
theorem q991 : (Jvm.Cond.selects "LetMe" ({ cls := "LetMe", name := "told", desc := "(I)I" } : Jvm.MethodName) ({ cls := "LetMe", name := "told", desc := "(I)I" } : Jvm.MethodName)) ∈ lw_all := lw_g (lw_at lw_m4 128 rfl) rfl
theorem q992 : (Jvm.Cond.code ({ cls := "LetMe", name := "told", desc := "(I)I" } : Jvm.MethodName) prog_1_method_36_code (2 : Nat) (Option.some Jvm.ClassFile.FieldType.int)) ∈ lw_all := lw_g (lw_at lw_m4 129 rfl) rfl
theorem q993 : (Jvm.Cond.constantLong "LetMe" (231 : Nat) (11 : Int64)) ∈ lw_all := lw_g (lw_at lw_m4 130 rfl) rfl
theorem q994 : (Jvm.Cond.methodLink "LetMe" (170 : Nat) ({ cls := "LetMe", name := "isIn", desc := "(JJJ)Z" } : Jvm.MethodName)) ∈ lw_all := lw_g (lw_at lw_m4 131 rfl) rfl
theorem q995 : (Jvm.Cond.static ({ cls := "LetMe", name := "isIn", desc := "(JJJ)Z" } : Jvm.MethodName)) ∈ lw_all := lw_g (lw_at lw_m4 132 rfl) rfl
theorem q996 : (Jvm.Cond.code ({ cls := "LetMe", name := "isIn", desc := "(JJJ)Z" } : Jvm.MethodName) prog_1_method_19_code (6 : Nat) (Option.some Jvm.ClassFile.FieldType.boolean)) ∈ lw_all := lw_g (lw_at lw_m4 133 rfl) rfl
theorem q997 : (Jvm.Cond.methodLink "LetMe" (245 : Nat) ({ cls := "LetMe$Table", name := "bill", desc := "()I" } : Jvm.MethodName)) ∈ lw_all := lw_g (lw_at lw_m4 134 rfl) rfl
theorem q1001 : (Jvm.Cond.methodLink "LetMe" (249 : Nat) ({ cls := "LetMe$Table", name := "heads", desc := "()I" } : Jvm.MethodName)) ∈ lw_all := lw_g (lw_at lw_m4 138 rfl) rfl
theorem q1009 : (Jvm.Cond.methodLink "LetMe" (252 : Nat) ({ cls := "java/lang/Integer", name := "bitCount", desc := "(I)I" } : Jvm.MethodName)) ∈ lw_all := lw_g (lw_at lw_m4 146 rfl) rfl
theorem q1015 : (Jvm.Cond.methodLink "LetMe" (258 : Nat) ({ cls := "LetMe", name := "paidByAll", desc := "()I" } : Jvm.MethodName)) ∈ lw_all := lw_g (lw_at lw_m4 152 rfl) rfl
theorem q1016 : (Jvm.Cond.privateMethod ({ cls := "LetMe", name := "paidByAll", desc := "()I" } : Jvm.MethodName)) ∈ lw_tbl := lw_at lw_m4 153 rfl
theorem q1017 : (Jvm.Cond.instanceMethod ({ cls := "LetMe", name := "paidByAll", desc := "()I" } : Jvm.MethodName)) ∈ lw_all := lw_g (lw_at lw_m4 154 rfl) rfl
theorem q1018 : (Jvm.Cond.code ({ cls := "LetMe", name := "paidByAll", desc := "()I" } : Jvm.MethodName) prog_1_method_35_code (3 : Nat) (Option.some Jvm.ClassFile.FieldType.int)) ∈ lw_all := lw_g (lw_at lw_m4 155 rfl) rfl
theorem q1019 : (Jvm.Cond.methodLink "LetMe" (267 : Nat) ({ cls := "LetMe$Table", name := "guests", desc := "()I" } : Jvm.MethodName)) ∈ lw_all := lw_g (lw_at lw_m4 156 rfl) rfl
theorem q1021 : (Jvm.Cond.instanceMethod ({ cls := "LetMe", name := "person", desc := "(II)I" } : Jvm.MethodName)) ∈ lw_all := lw_g (lw_at lw_m4 158 rfl) rfl
theorem q1022 : (Jvm.Cond.selects "LetMe" ({ cls := "LetMe", name := "person", desc := "(II)I" } : Jvm.MethodName) ({ cls := "LetMe", name := "person", desc := "(II)I" } : Jvm.MethodName)) ∈ lw_all := lw_g (lw_at lw_m4 159 rfl) rfl
theorem q1023 : (Jvm.Cond.code ({ cls := "LetMe", name := "person", desc := "(II)I" } : Jvm.MethodName) prog_1_method_37_code (3 : Nat) (Option.some Jvm.ClassFile.FieldType.int)) ∈ lw_all := lw_g (lw_at lw_m4 160 rfl) rfl
theorem q1024 : (Jvm.Cond.methodLink "LetMe" (174 : Nat) ({ cls := "LetMe", name := "isPerson", desc := "(I)Z" } : Jvm.MethodName)) ∈ lw_all := lw_g (lw_at lw_m4 161 rfl) rfl
theorem q1025 : (Jvm.Cond.privateMethod ({ cls := "LetMe", name := "isPerson", desc := "(I)Z" } : Jvm.MethodName)) ∈ lw_tbl := lw_at lw_m4 162 rfl
theorem q1026 : (Jvm.Cond.instanceMethod ({ cls := "LetMe", name := "isPerson", desc := "(I)Z" } : Jvm.MethodName)) ∈ lw_all := lw_g (lw_at lw_m4 163 rfl) rfl
theorem q1027 : (Jvm.Cond.code ({ cls := "LetMe", name := "isPerson", desc := "(I)Z" } : Jvm.MethodName) prog_1_method_22_code (2 : Nat) (Option.some Jvm.ClassFile.FieldType.boolean)) ∈ lw_all := lw_g (lw_at lw_m4 164 rfl) rfl
theorem q1028 : (Jvm.Cond.constantLong "LetMe" (273 : Nat) (5 : Int64)) ∈ lw_all := lw_g (lw_at lw_m4 165 rfl) rfl
theorem q1029 : (Jvm.Cond.methodLink "LetMe" (275 : Nat) ({ cls := "LetMe", name := "one", desc := "(I)LLetMe$Person;" } : Jvm.MethodName)) ∈ lw_all := lw_g (lw_at lw_m4 166 rfl) rfl
theorem q1030 : (Jvm.Cond.privateMethod ({ cls := "LetMe", name := "one", desc := "(I)LLetMe$Person;" } : Jvm.MethodName)) ∈ lw_tbl := lw_at lw_m4 167 rfl
theorem q1031 : (Jvm.Cond.instanceMethod ({ cls := "LetMe", name := "one", desc := "(I)LLetMe$Person;" } : Jvm.MethodName)) ∈ lw_all := lw_g (lw_at lw_m4 168 rfl) rfl
theorem q1032 : (Jvm.Cond.code ({ cls := "LetMe", name := "one", desc := "(I)LLetMe$Person;" } : Jvm.MethodName) prog_1_method_21_code (2 : Nat) (Option.some (Jvm.ClassFile.FieldType.object "LetMe$Person"))) ∈ lw_all := lw_g (lw_at lw_m4 169 rfl) rfl
theorem q1033 : (Jvm.Cond.methodLink "LetMe" (296 : Nat) ({ cls := "LetMe", name := "answer", desc := "(I)I" } : Jvm.MethodName)) ∈ lw_all := lw_g (lw_at lw_m4 170 rfl) rfl
theorem q1034 : (Jvm.Cond.privateMethod ({ cls := "LetMe", name := "answer", desc := "(I)I" } : Jvm.MethodName)) ∈ lw_tbl := lw_at lw_m4 171 rfl
theorem q1035 : (Jvm.Cond.instanceMethod ({ cls := "LetMe", name := "answer", desc := "(I)I" } : Jvm.MethodName)) ∈ lw_all := lw_g (lw_at lw_m4 172 rfl) rfl
theorem q1036 : (Jvm.Cond.code ({ cls := "LetMe", name := "answer", desc := "(I)I" } : Jvm.MethodName) prog_1_method_27_code (2 : Nat) (Option.some Jvm.ClassFile.FieldType.int)) ∈ lw_all := lw_g (lw_at lw_m4 173 rfl) rfl
theorem q1038 : (Jvm.Cond.instanceMethod ({ cls := "LetMe", name := "dish", desc := "(II)I" } : Jvm.MethodName)) ∈ lw_all := lw_g (lw_at lw_m4 175 rfl) rfl
theorem q1039 : (Jvm.Cond.selects "LetMe" ({ cls := "LetMe", name := "dish", desc := "(II)I" } : Jvm.MethodName) ({ cls := "LetMe", name := "dish", desc := "(II)I" } : Jvm.MethodName)) ∈ lw_all := lw_g (lw_at lw_m4 176 rfl) rfl
theorem q1040 : (Jvm.Cond.code ({ cls := "LetMe", name := "dish", desc := "(II)I" } : Jvm.MethodName) prog_1_method_38_code (3 : Nat) (Option.some Jvm.ClassFile.FieldType.int)) ∈ lw_all := lw_g (lw_at lw_m4 177 rfl) rfl
theorem q1042 : (Jvm.Cond.instanceMethod ({ cls := "LetMe", name := "eaten", desc := "(I)I" } : Jvm.MethodName)) ∈ lw_all := lw_g (lw_at lw_m4 179 rfl) rfl
theorem q1043 : (Jvm.Cond.selects "LetMe" ({ cls := "LetMe", name := "eaten", desc := "(I)I" } : Jvm.MethodName) ({ cls := "LetMe", name := "eaten", desc := "(I)I" } : Jvm.MethodName)) ∈ lw_all := lw_g (lw_at lw_m4 180 rfl) rfl
theorem q1044 : (Jvm.Cond.code ({ cls := "LetMe", name := "eaten", desc := "(I)I" } : Jvm.MethodName) prog_1_method_39_code (2 : Nat) (Option.some Jvm.ClassFile.FieldType.int)) ∈ lw_all := lw_g (lw_at lw_m4 181 rfl) rfl
theorem q1045 : (Jvm.Cond.methodLink "LetMe" (304 : Nat) ({ cls := "LetMe$Table", name := "eaten", desc := "(I)I" } : Jvm.MethodName)) ∈ lw_all := lw_g (lw_at lw_m4 182 rfl) rfl
theorem q1058 : (Jvm.Cond.instanceMethod ({ cls := "LetMe", name := "due", desc := "(II)I" } : Jvm.MethodName)) ∈ lw_all := lw_g (lw_at lw_m4 195 rfl) rfl
theorem q1059 : (Jvm.Cond.selects "LetMe" ({ cls := "LetMe", name := "due", desc := "(II)I" } : Jvm.MethodName) ({ cls := "LetMe", name := "due", desc := "(II)I" } : Jvm.MethodName)) ∈ lw_all := lw_g (lw_at lw_m4 196 rfl) rfl
theorem q1060 : (Jvm.Cond.code ({ cls := "LetMe", name := "due", desc := "(II)I" } : Jvm.MethodName) prog_1_method_40_code (3 : Nat) (Option.some Jvm.ClassFile.FieldType.int)) ∈ lw_all := lw_g (lw_at lw_m4 197 rfl) rfl
theorem q1061 : (Jvm.Cond.methodLink "LetMe" (307 : Nat) ({ cls := "LetMe", name := "isSplit", desc := "(I)Z" } : Jvm.MethodName)) ∈ lw_all := lw_g (lw_at lw_m4 198 rfl) rfl
theorem q1062 : (Jvm.Cond.static ({ cls := "LetMe", name := "isSplit", desc := "(I)Z" } : Jvm.MethodName)) ∈ lw_all := lw_g (lw_at lw_m4 199 rfl) rfl
theorem q1063 : (Jvm.Cond.code ({ cls := "LetMe", name := "isSplit", desc := "(I)Z" } : Jvm.MethodName) prog_1_method_24_code (1 : Nat) (Option.some Jvm.ClassFile.FieldType.boolean)) ∈ lw_all := lw_g (lw_at lw_m4 200 rfl) rfl
theorem q1064 : (Jvm.Cond.constantLong "LetMe" (178 : Nat) (2 : Int64)) ∈ lw_all := lw_g (lw_at lw_m4 201 rfl) rfl
theorem q1065 : (Jvm.Cond.methodLink "LetMe" (310 : Nat) ({ cls := "LetMe$Table", name := "due", desc := "(II)I" } : Jvm.MethodName)) ∈ lw_all := lw_g (lw_at lw_m4 202 rfl) rfl
theorem q1077 : (Jvm.Cond.instanceMethod ({ cls := "LetMe", name := "unfair", desc := "(I)I" } : Jvm.MethodName)) ∈ lw_all := lw_g (lw_at lw_m4 214 rfl) rfl
theorem q1078 : (Jvm.Cond.selects "LetMe" ({ cls := "LetMe", name := "unfair", desc := "(I)I" } : Jvm.MethodName) ({ cls := "LetMe", name := "unfair", desc := "(I)I" } : Jvm.MethodName)) ∈ lw_all := lw_g (lw_at lw_m4 215 rfl) rfl
theorem q1079 : (Jvm.Cond.code ({ cls := "LetMe", name := "unfair", desc := "(I)I" } : Jvm.MethodName) prog_1_method_42_code (2 : Nat) (Option.some Jvm.ClassFile.FieldType.int)) ∈ lw_all := lw_g (lw_at lw_m4 216 rfl) rfl
theorem q1080 : (Jvm.Cond.methodLink "LetMe" (316 : Nat) ({ cls := "LetMe", name := "unfairOf", desc := "(I)I" } : Jvm.MethodName)) ∈ lw_all := lw_g (lw_at lw_m4 217 rfl) rfl
theorem q1081 : (Jvm.Cond.privateMethod ({ cls := "LetMe", name := "unfairOf", desc := "(I)I" } : Jvm.MethodName)) ∈ lw_tbl := lw_at lw_m4 218 rfl
theorem q1082 : (Jvm.Cond.instanceMethod ({ cls := "LetMe", name := "unfairOf", desc := "(I)I" } : Jvm.MethodName)) ∈ lw_all := lw_g (lw_at lw_m4 219 rfl) rfl
theorem q1083 : (Jvm.Cond.code ({ cls := "LetMe", name := "unfairOf", desc := "(I)I" } : Jvm.MethodName) prog_1_method_41_code (4 : Nat) (Option.some Jvm.ClassFile.FieldType.int)) ∈ lw_all := lw_g (lw_at lw_m4 220 rfl) rfl
theorem q1084 : (Jvm.Cond.methodLink "LetMe" (314 : Nat) ({ cls := "java/lang/Math", name := "abs", desc := "(I)I" } : Jvm.MethodName)) ∈ lw_all := lw_g (lw_at lw_m4 221 rfl) rfl
theorem q1088 : (Jvm.Cond.instanceMethod ({ cls := "LetMe", name := "fairest", desc := "()I" } : Jvm.MethodName)) ∈ lw_all := lw_g (lw_at lw_m4 225 rfl) rfl
theorem q1089 : (Jvm.Cond.selects "LetMe" ({ cls := "LetMe", name := "fairest", desc := "()I" } : Jvm.MethodName) ({ cls := "LetMe", name := "fairest", desc := "()I" } : Jvm.MethodName)) ∈ lw_all := lw_g (lw_at lw_m4 226 rfl) rfl
theorem q1090 : (Jvm.Cond.code ({ cls := "LetMe", name := "fairest", desc := "()I" } : Jvm.MethodName) prog_1_method_43_code (3 : Nat) (Option.some Jvm.ClassFile.FieldType.int)) ∈ lw_all := lw_g (lw_at lw_m4 227 rfl) rfl
theorem q1092 : (Jvm.Cond.instanceMethod ({ cls := "LetMe", name := "dearer", desc := "(III)I" } : Jvm.MethodName)) ∈ lw_all := lw_g (lw_at lw_m4 229 rfl) rfl
theorem q1093 : (Jvm.Cond.selects "LetMe" ({ cls := "LetMe", name := "dearer", desc := "(III)I" } : Jvm.MethodName) ({ cls := "LetMe", name := "dearer", desc := "(III)I" } : Jvm.MethodName)) ∈ lw_all := lw_g (lw_at lw_m4 230 rfl) rfl
theorem q1094 : (Jvm.Cond.code ({ cls := "LetMe", name := "dearer", desc := "(III)I" } : Jvm.MethodName) prog_1_method_44_code (4 : Nat) (Option.some Jvm.ClassFile.FieldType.int)) ∈ lw_all := lw_g (lw_at lw_m4 231 rfl) rfl
theorem q1096 : (Jvm.Cond.instanceMethod ({ cls := "LetMe", name := "hardest", desc := "(I)I" } : Jvm.MethodName)) ∈ lw_all := lw_g (lw_at lw_m4 233 rfl) rfl
theorem q1097 : (Jvm.Cond.selects "LetMe" ({ cls := "LetMe", name := "hardest", desc := "(I)I" } : Jvm.MethodName) ({ cls := "LetMe", name := "hardest", desc := "(I)I" } : Jvm.MethodName)) ∈ lw_all := lw_g (lw_at lw_m4 234 rfl) rfl
theorem q1098 : (Jvm.Cond.code ({ cls := "LetMe", name := "hardest", desc := "(I)I" } : Jvm.MethodName) prog_1_method_45_code (4 : Nat) (Option.some Jvm.ClassFile.FieldType.int)) ∈ lw_all := lw_g (lw_at lw_m4 235 rfl) rfl
theorem q1100 : (Jvm.Cond.instanceMethod ({ cls := "LetMe", name := "order", desc := "(II)I" } : Jvm.MethodName)) ∈ lw_all := lw_g (lw_at lw_m4 237 rfl) rfl
theorem q1101 : (Jvm.Cond.selects "LetMe" ({ cls := "LetMe", name := "order", desc := "(II)I" } : Jvm.MethodName) ({ cls := "LetMe", name := "order", desc := "(II)I" } : Jvm.MethodName)) ∈ lw_all := lw_g (lw_at lw_m4 238 rfl) rfl
theorem q1102 : (Jvm.Cond.code ({ cls := "LetMe", name := "order", desc := "(II)I" } : Jvm.MethodName) prog_1_method_46_code (3 : Nat) (Option.some Jvm.ClassFile.FieldType.int)) ∈ lw_all := lw_g (lw_at lw_m4 239 rfl) rfl
theorem q1103 : (Jvm.Cond.constantLong "LetMe" (319 : Nat) (999 : Int64)) ∈ lw_all := lw_g (lw_at lw_m5 0 rfl) rfl
theorem q1104 : (Jvm.Cond.methodLink "LetMe" (321 : Nat) ({ cls := "LetMe$Table", name := "order", desc := "(II)V" } : Jvm.MethodName)) ∈ lw_all := lw_g (lw_at lw_m5 1 rfl) rfl
theorem q1106 : (Jvm.Cond.instanceMethod ({ cls := "LetMe", name := "strike", desc := "()I" } : Jvm.MethodName)) ∈ lw_all := lw_g (lw_at lw_m5 3 rfl) rfl
theorem q1107 : (Jvm.Cond.selects "LetMe" ({ cls := "LetMe", name := "strike", desc := "()I" } : Jvm.MethodName) ({ cls := "LetMe", name := "strike", desc := "()I" } : Jvm.MethodName)) ∈ lw_all := lw_g (lw_at lw_m5 4 rfl) rfl
theorem q1108 : (Jvm.Cond.code ({ cls := "LetMe", name := "strike", desc := "()I" } : Jvm.MethodName) prog_1_method_47_code (1 : Nat) (Option.some Jvm.ClassFile.FieldType.int)) ∈ lw_all := lw_g (lw_at lw_m5 5 rfl) rfl
theorem q1110 : (Jvm.Cond.instanceMethod ({ cls := "LetMe", name := "split", desc := "(I)Z" } : Jvm.MethodName)) ∈ lw_all := lw_g (lw_at lw_m5 7 rfl) rfl
theorem q1111 : (Jvm.Cond.selects "LetMe" ({ cls := "LetMe", name := "split", desc := "(I)Z" } : Jvm.MethodName) ({ cls := "LetMe", name := "split", desc := "(I)Z" } : Jvm.MethodName)) ∈ lw_all := lw_g (lw_at lw_m5 8 rfl) rfl
theorem q1112 : (Jvm.Cond.code ({ cls := "LetMe", name := "split", desc := "(I)Z" } : Jvm.MethodName) prog_1_method_48_code (2 : Nat) (Option.some Jvm.ClassFile.FieldType.boolean)) ∈ lw_all := lw_g (lw_at lw_m5 9 rfl) rfl
theorem q1114 : (Jvm.Cond.instanceMethod ({ cls := "LetMe", name := "law", desc := "(I)Z" } : Jvm.MethodName)) ∈ lw_all := lw_g (lw_at lw_m5 11 rfl) rfl
theorem q1115 : (Jvm.Cond.selects "LetMe" ({ cls := "LetMe", name := "law", desc := "(I)Z" } : Jvm.MethodName) ({ cls := "LetMe", name := "law", desc := "(I)Z" } : Jvm.MethodName)) ∈ lw_all := lw_g (lw_at lw_m5 12 rfl) rfl
theorem q1116 : (Jvm.Cond.code ({ cls := "LetMe", name := "law", desc := "(I)Z" } : Jvm.MethodName) prog_1_method_49_code (2 : Nat) (Option.some Jvm.ClassFile.FieldType.boolean)) ∈ lw_all := lw_g (lw_at lw_m5 13 rfl) rfl
theorem q1117 : (Jvm.Cond.methodLink "LetMe" (325 : Nat) ({ cls := "LetMe", name := "isLaw", desc := "(I)Z" } : Jvm.MethodName)) ∈ lw_all := lw_g (lw_at lw_m5 14 rfl) rfl
theorem q1118 : (Jvm.Cond.static ({ cls := "LetMe", name := "isLaw", desc := "(I)Z" } : Jvm.MethodName)) ∈ lw_all := lw_g (lw_at lw_m5 15 rfl) rfl
theorem q1119 : (Jvm.Cond.code ({ cls := "LetMe", name := "isLaw", desc := "(I)Z" } : Jvm.MethodName) prog_1_method_25_code (1 : Nat) (Option.some Jvm.ClassFile.FieldType.boolean)) ∈ lw_all := lw_g (lw_at lw_m5 16 rfl) rfl
theorem q1120 : (Jvm.Cond.constantLong "LetMe" (180 : Nat) (3 : Int64)) ∈ lw_all := lw_g (lw_at lw_m5 17 rfl) rfl
theorem q1122 : (Jvm.Cond.instanceMethod ({ cls := "LetMe", name := "second", desc := "(II)I" } : Jvm.MethodName)) ∈ lw_all := lw_g (lw_at lw_m5 19 rfl) rfl
theorem q1123 : (Jvm.Cond.selects "LetMe" ({ cls := "LetMe", name := "second", desc := "(II)I" } : Jvm.MethodName) ({ cls := "LetMe", name := "second", desc := "(II)I" } : Jvm.MethodName)) ∈ lw_all := lw_g (lw_at lw_m5 20 rfl) rfl
theorem q1124 : (Jvm.Cond.code ({ cls := "LetMe", name := "second", desc := "(II)I" } : Jvm.MethodName) prog_1_method_51_code (3 : Nat) (Option.some Jvm.ClassFile.FieldType.int)) ∈ lw_all := lw_g (lw_at lw_m5 21 rfl) rfl
theorem q1125 : (Jvm.Cond.constantLong "LetMe" (341 : Nat) (9999 : Int64)) ∈ lw_all := lw_g (lw_at lw_m5 22 rfl) rfl
theorem q1126 : (Jvm.Cond.methodLink "LetMe" (337 : Nat) ({ cls := "LetMe", name := "sums", desc := "(III)V" } : Jvm.MethodName)) ∈ lw_all := lw_g (lw_at lw_m5 23 rfl) rfl
theorem q1127 : (Jvm.Cond.privateMethod ({ cls := "LetMe", name := "sums", desc := "(III)V" } : Jvm.MethodName)) ∈ lw_tbl := lw_at lw_m5 24 rfl
theorem q1128 : (Jvm.Cond.instanceMethod ({ cls := "LetMe", name := "sums", desc := "(III)V" } : Jvm.MethodName)) ∈ lw_all := lw_g (lw_at lw_m5 25 rfl) rfl
theorem q1129 : (Jvm.Cond.code ({ cls := "LetMe", name := "sums", desc := "(III)V" } : Jvm.MethodName) prog_1_method_50_code (5 : Nat) (Option.none : Option Jvm.ClassFile.FieldType)) ∈ lw_all := lw_g (lw_at lw_m5 26 rfl) rfl
theorem q1131 : (Jvm.Cond.instanceMethod ({ cls := "LetMe", name := "padded", desc := "(I)I" } : Jvm.MethodName)) ∈ lw_all := lw_g (lw_at lw_m5 28 rfl) rfl
theorem q1132 : (Jvm.Cond.selects "LetMe" ({ cls := "LetMe", name := "padded", desc := "(I)I" } : Jvm.MethodName) ({ cls := "LetMe", name := "padded", desc := "(I)I" } : Jvm.MethodName)) ∈ lw_all := lw_g (lw_at lw_m5 29 rfl) rfl
theorem q1133 : (Jvm.Cond.code ({ cls := "LetMe", name := "padded", desc := "(I)I" } : Jvm.MethodName) prog_1_method_52_code (2 : Nat) (Option.some Jvm.ClassFile.FieldType.int)) ∈ lw_all := lw_g (lw_at lw_m5 30 rfl) rfl
theorem q1134 : (Jvm.Cond.constantLong "LetMe" (343 : Nat) (99999 : Int64)) ∈ lw_all := lw_g (lw_at lw_m5 31 rfl) rfl
theorem q1136 : (Jvm.Cond.instanceMethod ({ cls := "LetMe", name := "pay", desc := "(I)I" } : Jvm.MethodName)) ∈ lw_all := lw_g (lw_at lw_m5 33 rfl) rfl
theorem q1137 : (Jvm.Cond.selects "LetMe" ({ cls := "LetMe", name := "pay", desc := "(I)I" } : Jvm.MethodName) ({ cls := "LetMe", name := "pay", desc := "(I)I" } : Jvm.MethodName)) ∈ lw_all := lw_g (lw_at lw_m5 34 rfl) rfl
theorem q1138 : (Jvm.Cond.code ({ cls := "LetMe", name := "pay", desc := "(I)I" } : Jvm.MethodName) prog_1_method_53_code (2 : Nat) (Option.some Jvm.ClassFile.FieldType.int)) ∈ lw_all := lw_g (lw_at lw_m5 35 rfl) rfl
theorem q1139 : (Jvm.Cond.methodLink "LetMe" (345 : Nat) ({ cls := "LetMe$Table", name := "pays", desc := "(I)Z" } : Jvm.MethodName)) ∈ lw_all := lw_g (lw_at lw_m5 36 rfl) rfl
theorem q1151 : (Jvm.Cond.instanceMethod ({ cls := "LetMe", name := "turn", desc := "()I" } : Jvm.MethodName)) ∈ lw_all := lw_g (lw_at lw_m5 48 rfl) rfl
theorem q1152 : (Jvm.Cond.selects "LetMe" ({ cls := "LetMe", name := "turn", desc := "()I" } : Jvm.MethodName) ({ cls := "LetMe", name := "turn", desc := "()I" } : Jvm.MethodName)) ∈ lw_all := lw_g (lw_at lw_m5 49 rfl) rfl
theorem q1153 : (Jvm.Cond.code ({ cls := "LetMe", name := "turn", desc := "()I" } : Jvm.MethodName) prog_1_method_54_code (1 : Nat) (Option.some Jvm.ClassFile.FieldType.int)) ∈ lw_all := lw_g (lw_at lw_m5 50 rfl) rfl
theorem q1154 : (Jvm.Cond.methodLink "LetMe" (348 : Nat) ({ cls := "LetMe$Table", name := "turn", desc := "(I)I" } : Jvm.MethodName)) ∈ lw_all := lw_g (lw_at lw_m5 51 rfl) rfl
theorem q1167 : (Jvm.Cond.instanceMethod ({ cls := "LetMe", name := "turnBy", desc := "(I)I" } : Jvm.MethodName)) ∈ lw_all := lw_g (lw_at lw_m5 64 rfl) rfl
theorem q1168 : (Jvm.Cond.selects "LetMe" ({ cls := "LetMe", name := "turnBy", desc := "(I)I" } : Jvm.MethodName) ({ cls := "LetMe", name := "turnBy", desc := "(I)I" } : Jvm.MethodName)) ∈ lw_all := lw_g (lw_at lw_m5 65 rfl) rfl
theorem q1169 : (Jvm.Cond.code ({ cls := "LetMe", name := "turnBy", desc := "(I)I" } : Jvm.MethodName) prog_1_method_55_code (2 : Nat) (Option.some Jvm.ClassFile.FieldType.int)) ∈ lw_all := lw_g (lw_at lw_m5 66 rfl) rfl
theorem q1171 : (Jvm.Cond.instanceMethod ({ cls := "LetMe", name := "duel", desc := "(II)Z" } : Jvm.MethodName)) ∈ lw_all := lw_g (lw_at lw_m5 68 rfl) rfl
theorem q1172 : (Jvm.Cond.selects "LetMe" ({ cls := "LetMe", name := "duel", desc := "(II)Z" } : Jvm.MethodName) ({ cls := "LetMe", name := "duel", desc := "(II)Z" } : Jvm.MethodName)) ∈ lw_all := lw_g (lw_at lw_m5 69 rfl) rfl
theorem q1173 : (Jvm.Cond.code ({ cls := "LetMe", name := "duel", desc := "(II)Z" } : Jvm.MethodName) prog_1_method_59_code (3 : Nat) (Option.some Jvm.ClassFile.FieldType.boolean)) ∈ lw_all := lw_g (lw_at lw_m5 70 rfl) rfl
theorem q1174 : (Jvm.Cond.methodLink "LetMe" (358 : Nat) ({ cls := "LetMe", name := "whyNoDuel", desc := "(II)I" } : Jvm.MethodName)) ∈ lw_all := lw_g (lw_at lw_m5 71 rfl) rfl
theorem q1175 : (Jvm.Cond.privateMethod ({ cls := "LetMe", name := "whyNoDuel", desc := "(II)I" } : Jvm.MethodName)) ∈ lw_tbl := lw_at lw_m5 72 rfl
theorem q1176 : (Jvm.Cond.instanceMethod ({ cls := "LetMe", name := "whyNoDuel", desc := "(II)I" } : Jvm.MethodName)) ∈ lw_all := lw_g (lw_at lw_m5 73 rfl) rfl
theorem q1177 : (Jvm.Cond.code ({ cls := "LetMe", name := "whyNoDuel", desc := "(II)I" } : Jvm.MethodName) prog_1_method_58_code (3 : Nat) (Option.some Jvm.ClassFile.FieldType.int)) ∈ lw_all := lw_g (lw_at lw_m5 74 rfl) rfl
theorem q1178 : (Jvm.Cond.methodLink "LetMe" (351 : Nat) ({ cls := "LetMe", name := "areTwo", desc := "(II)Z" } : Jvm.MethodName)) ∈ lw_all := lw_g (lw_at lw_m5 75 rfl) rfl
theorem q1179 : (Jvm.Cond.privateMethod ({ cls := "LetMe", name := "areTwo", desc := "(II)Z" } : Jvm.MethodName)) ∈ lw_tbl := lw_at lw_m5 76 rfl
theorem q1180 : (Jvm.Cond.instanceMethod ({ cls := "LetMe", name := "areTwo", desc := "(II)Z" } : Jvm.MethodName)) ∈ lw_all := lw_g (lw_at lw_m5 77 rfl) rfl
theorem q1181 : (Jvm.Cond.code ({ cls := "LetMe", name := "areTwo", desc := "(II)Z" } : Jvm.MethodName) prog_1_method_23_code (3 : Nat) (Option.some Jvm.ClassFile.FieldType.boolean)) ∈ lw_all := lw_g (lw_at lw_m5 78 rfl) rfl
theorem q1182 : (Jvm.Cond.methodLink "LetMe" (354 : Nat) ({ cls := "LetMe", name := "ending", desc := "(II)J" } : Jvm.MethodName)) ∈ lw_all := lw_g (lw_at lw_m5 79 rfl) rfl
theorem q1183 : (Jvm.Cond.privateMethod ({ cls := "LetMe", name := "ending", desc := "(II)J" } : Jvm.MethodName)) ∈ lw_tbl := lw_at lw_m5 80 rfl
theorem q1184 : (Jvm.Cond.instanceMethod ({ cls := "LetMe", name := "ending", desc := "(II)J" } : Jvm.MethodName)) ∈ lw_all := lw_g (lw_at lw_m5 81 rfl) rfl
theorem q1185 : (Jvm.Cond.code ({ cls := "LetMe", name := "ending", desc := "(II)J" } : Jvm.MethodName) prog_1_method_56_code (3 : Nat) (Option.some Jvm.ClassFile.FieldType.long)) ∈ lw_all := lw_g (lw_at lw_m5 82 rfl) rfl
theorem q1186 : (Jvm.Cond.methodLink "LetMe" (361 : Nat) ({ cls := "LetMe", name := "stays", desc := "(II)J" } : Jvm.MethodName)) ∈ lw_all := lw_g (lw_at lw_m5 83 rfl) rfl
theorem q1187 : (Jvm.Cond.privateMethod ({ cls := "LetMe", name := "stays", desc := "(II)J" } : Jvm.MethodName)) ∈ lw_tbl := lw_at lw_m5 84 rfl
theorem q1188 : (Jvm.Cond.instanceMethod ({ cls := "LetMe", name := "stays", desc := "(II)J" } : Jvm.MethodName)) ∈ lw_all := lw_g (lw_at lw_m5 85 rfl) rfl
theorem q1189 : (Jvm.Cond.code ({ cls := "LetMe", name := "stays", desc := "(II)J" } : Jvm.MethodName) prog_1_method_57_code (3 : Nat) (Option.some Jvm.ClassFile.FieldType.long)) ∈ lw_all := lw_g (lw_at lw_m5 86 rfl) rfl
theorem q1190 : (Jvm.Cond.methodLink "LetMe" (364 : Nat) ({ cls := "LetMe", name := "fraction", desc := "(JJ)I" } : Jvm.MethodName)) ∈ lw_all := lw_g (lw_at lw_m5 87 rfl) rfl
theorem q1191 : (Jvm.Cond.privateMethod ({ cls := "LetMe", name := "fraction", desc := "(JJ)I" } : Jvm.MethodName)) ∈ lw_tbl := lw_at lw_m5 88 rfl
theorem q1192 : (Jvm.Cond.instanceMethod ({ cls := "LetMe", name := "fraction", desc := "(JJ)I" } : Jvm.MethodName)) ∈ lw_all := lw_g (lw_at lw_m5 89 rfl) rfl
theorem q1193 : (Jvm.Cond.code ({ cls := "LetMe", name := "fraction", desc := "(JJ)I" } : Jvm.MethodName) prog_1_method_13_code (11 : Nat) (Option.some Jvm.ClassFile.FieldType.int)) ∈ lw_all := lw_g (lw_at lw_m5 90 rfl) rfl
theorem q1194 : (Jvm.Cond.methodLink "LetMe" (95 : Nat) ({ cls := "java/lang/Math", name := "abs", desc := "(J)J" } : Jvm.MethodName)) ∈ lw_all := lw_g (lw_at lw_m5 91 rfl) rfl
theorem q1197 : (Jvm.Cond.methodLink "LetMe" (101 : Nat) ({ cls := "java/lang/Long", name := "signum", desc := "(J)I" } : Jvm.MethodName)) ∈ lw_all := lw_g (lw_at lw_m5 94 rfl) rfl
theorem q1201 : (Jvm.Cond.instanceMethod ({ cls := "LetMe", name := "goes", desc := "(II)Z" } : Jvm.MethodName)) ∈ lw_all := lw_g (lw_at lw_m5 98 rfl) rfl
theorem q1202 : (Jvm.Cond.selects "LetMe" ({ cls := "LetMe", name := "goes", desc := "(II)Z" } : Jvm.MethodName) ({ cls := "LetMe", name := "goes", desc := "(II)Z" } : Jvm.MethodName)) ∈ lw_all := lw_g (lw_at lw_m5 99 rfl) rfl
theorem q1203 : (Jvm.Cond.code ({ cls := "LetMe", name := "goes", desc := "(II)Z" } : Jvm.MethodName) prog_1_method_60_code (3 : Nat) (Option.some Jvm.ClassFile.FieldType.boolean)) ∈ lw_all := lw_g (lw_at lw_m5 100 rfl) rfl
theorem q1204 : (Jvm.Cond.constantLong "LetMe" (368 : Nat) (16 : Int64)) ∈ lw_all := lw_g (lw_at lw_m5 101 rfl) rfl
theorem q1206 : (Jvm.Cond.instanceMethod ({ cls := "LetMe", name := "trio", desc := "(IIII)Z" } : Jvm.MethodName)) ∈ lw_all := lw_g (lw_at lw_m5 103 rfl) rfl
theorem q1207 : (Jvm.Cond.selects "LetMe" ({ cls := "LetMe", name := "trio", desc := "(IIII)Z" } : Jvm.MethodName) ({ cls := "LetMe", name := "trio", desc := "(IIII)Z" } : Jvm.MethodName)) ∈ lw_all := lw_g (lw_at lw_m5 104 rfl) rfl
theorem q1208 : (Jvm.Cond.code ({ cls := "LetMe", name := "trio", desc := "(IIII)Z" } : Jvm.MethodName) prog_1_method_62_code (19 : Nat) (Option.some Jvm.ClassFile.FieldType.boolean)) ∈ lw_all := lw_g (lw_at lw_m5 105 rfl) rfl
theorem q1209 : (Jvm.Cond.methodLink "LetMe" (370 : Nat) ({ cls := "LetMe", name := "areThree", desc := "(III)Z" } : Jvm.MethodName)) ∈ lw_all := lw_g (lw_at lw_m5 106 rfl) rfl
theorem q1210 : (Jvm.Cond.privateMethod ({ cls := "LetMe", name := "areThree", desc := "(III)Z" } : Jvm.MethodName)) ∈ lw_tbl := lw_at lw_m5 107 rfl
theorem q1211 : (Jvm.Cond.instanceMethod ({ cls := "LetMe", name := "areThree", desc := "(III)Z" } : Jvm.MethodName)) ∈ lw_all := lw_g (lw_at lw_m5 108 rfl) rfl
theorem q1212 : (Jvm.Cond.code ({ cls := "LetMe", name := "areThree", desc := "(III)Z" } : Jvm.MethodName) prog_1_method_61_code (4 : Nat) (Option.some Jvm.ClassFile.FieldType.boolean)) ∈ lw_all := lw_g (lw_at lw_m5 109 rfl) rfl
theorem q1213 : (Jvm.Cond.constantLong "LetMe" (374 : Nat) (4096 : Int64)) ∈ lw_all := lw_g (lw_at lw_m5 110 rfl) rfl
theorem q1214 : (Jvm.Cond.constantLong "LetMe" (376 : Nat) (256 : Int64)) ∈ lw_all := lw_g (lw_at lw_m5 111 rfl) rfl
theorem q1216 : (Jvm.Cond.instanceMethod ({ cls := "LetMe", name := "reach", desc := "(II)Z" } : Jvm.MethodName)) ∈ lw_all := lw_g (lw_at lw_m5 113 rfl) rfl
theorem q1217 : (Jvm.Cond.selects "LetMe" ({ cls := "LetMe", name := "reach", desc := "(II)Z" } : Jvm.MethodName) ({ cls := "LetMe", name := "reach", desc := "(II)Z" } : Jvm.MethodName)) ∈ lw_all := lw_g (lw_at lw_m5 114 rfl) rfl
theorem q1218 : (Jvm.Cond.code ({ cls := "LetMe", name := "reach", desc := "(II)Z" } : Jvm.MethodName) prog_1_method_63_code (5 : Nat) (Option.some Jvm.ClassFile.FieldType.boolean)) ∈ lw_all := lw_g (lw_at lw_m5 115 rfl) rfl
theorem q1219 : (Jvm.Cond.methodLink "LetMe" (378 : Nat) ({ cls := "LetMe", name := "has", desc := "(II)Z" } : Jvm.MethodName)) ∈ lw_all := lw_g (lw_at lw_m5 116 rfl) rfl
theorem q1220 : (Jvm.Cond.static ({ cls := "LetMe", name := "has", desc := "(II)Z" } : Jvm.MethodName)) ∈ lw_all := lw_g (lw_at lw_m5 117 rfl) rfl
theorem q1221 : (Jvm.Cond.code ({ cls := "LetMe", name := "has", desc := "(II)Z" } : Jvm.MethodName) prog_1_method_26_code (2 : Nat) (Option.some Jvm.ClassFile.FieldType.boolean)) ∈ lw_all := lw_g (lw_at lw_m5 118 rfl) rfl
theorem q1223 : (Jvm.Cond.instanceMethod ({ cls := "LetMe", name := "easyOn", desc := "(I)I" } : Jvm.MethodName)) ∈ lw_all := lw_g (lw_at lw_m5 120 rfl) rfl
theorem q1224 : (Jvm.Cond.selects "LetMe" ({ cls := "LetMe", name := "easyOn", desc := "(I)I" } : Jvm.MethodName) ({ cls := "LetMe", name := "easyOn", desc := "(I)I" } : Jvm.MethodName)) ∈ lw_all := lw_g (lw_at lw_m5 121 rfl) rfl
theorem q1225 : (Jvm.Cond.code ({ cls := "LetMe", name := "easyOn", desc := "(I)I" } : Jvm.MethodName) prog_1_method_64_code (4 : Nat) (Option.some Jvm.ClassFile.FieldType.int)) ∈ lw_all := lw_g (lw_at lw_m5 122 rfl) rfl
theorem q1227 : (Jvm.Cond.instanceMethod ({ cls := "LetMe", name := "regret", desc := "(I)I" } : Jvm.MethodName)) ∈ lw_all := lw_g (lw_at lw_m5 124 rfl) rfl
theorem q1228 : (Jvm.Cond.selects "LetMe" ({ cls := "LetMe", name := "regret", desc := "(I)I" } : Jvm.MethodName) ({ cls := "LetMe", name := "regret", desc := "(I)I" } : Jvm.MethodName)) ∈ lw_all := lw_g (lw_at lw_m5 125 rfl) rfl
theorem q1229 : (Jvm.Cond.code ({ cls := "LetMe", name := "regret", desc := "(I)I" } : Jvm.MethodName) prog_1_method_66_code (2 : Nat) (Option.some Jvm.ClassFile.FieldType.int)) ∈ lw_all := lw_g (lw_at lw_m5 126 rfl) rfl
theorem q1230 : (Jvm.Cond.methodLink "LetMe" (384 : Nat) ({ cls := "LetMe", name := "regretOf", desc := "(I)I" } : Jvm.MethodName)) ∈ lw_all := lw_g (lw_at lw_m5 127 rfl) rfl
theorem q1231 : (Jvm.Cond.privateMethod ({ cls := "LetMe", name := "regretOf", desc := "(I)I" } : Jvm.MethodName)) ∈ lw_tbl := lw_at lw_m5 128 rfl
theorem q1232 : (Jvm.Cond.instanceMethod ({ cls := "LetMe", name := "regretOf", desc := "(I)I" } : Jvm.MethodName)) ∈ lw_all := lw_g (lw_at lw_m5 129 rfl) rfl
theorem q1233 : (Jvm.Cond.code ({ cls := "LetMe", name := "regretOf", desc := "(I)I" } : Jvm.MethodName) prog_1_method_65_code (2 : Nat) (Option.some Jvm.ClassFile.FieldType.int)) ∈ lw_all := lw_g (lw_at lw_m5 130 rfl) rfl
theorem q1234 : (Jvm.Cond.methodLink "LetMe" (381 : Nat) ({ cls := "LetMe$Table", name := "balance", desc := "(I)I" } : Jvm.MethodName)) ∈ lw_all := lw_g (lw_at lw_m5 131 rfl) rfl
theorem q1236 : (Jvm.Cond.instanceMethod ({ cls := "LetMe", name := "sorest", desc := "()I" } : Jvm.MethodName)) ∈ lw_all := lw_g (lw_at lw_m5 133 rfl) rfl
theorem q1237 : (Jvm.Cond.selects "LetMe" ({ cls := "LetMe", name := "sorest", desc := "()I" } : Jvm.MethodName) ({ cls := "LetMe", name := "sorest", desc := "()I" } : Jvm.MethodName)) ∈ lw_all := lw_g (lw_at lw_m5 134 rfl) rfl
theorem q1238 : (Jvm.Cond.code ({ cls := "LetMe", name := "sorest", desc := "()I" } : Jvm.MethodName) prog_1_method_67_code (3 : Nat) (Option.some Jvm.ClassFile.FieldType.int)) ∈ lw_all := lw_g (lw_at lw_m5 135 rfl) rfl
theorem q1240 : (Jvm.Cond.instanceMethod ({ cls := "LetMe", name := "owes", desc := "(II)I" } : Jvm.MethodName)) ∈ lw_all := lw_g (lw_at lw_m5 137 rfl) rfl
theorem q1241 : (Jvm.Cond.selects "LetMe" ({ cls := "LetMe", name := "owes", desc := "(II)I" } : Jvm.MethodName) ({ cls := "LetMe", name := "owes", desc := "(II)I" } : Jvm.MethodName)) ∈ lw_all := lw_g (lw_at lw_m5 138 rfl) rfl
theorem q1242 : (Jvm.Cond.code ({ cls := "LetMe", name := "owes", desc := "(II)I" } : Jvm.MethodName) prog_1_method_68_code (3 : Nat) (Option.some Jvm.ClassFile.FieldType.int)) ∈ lw_all := lw_g (lw_at lw_m5 139 rfl) rfl
theorem q1243 : (Jvm.Cond.methodLink "LetMe" (387 : Nat) ({ cls := "LetMe$Table", name := "owes", desc := "(II)I" } : Jvm.MethodName)) ∈ lw_all := lw_g (lw_at lw_m5 140 rfl) rfl
theorem q1245 : (Jvm.Cond.instanceMethod ({ cls := "LetMe", name := "lend", desc := "(III)I" } : Jvm.MethodName)) ∈ lw_all := lw_g (lw_at lw_m5 142 rfl) rfl
theorem q1246 : (Jvm.Cond.selects "LetMe" ({ cls := "LetMe", name := "lend", desc := "(III)I" } : Jvm.MethodName) ({ cls := "LetMe", name := "lend", desc := "(III)I" } : Jvm.MethodName)) ∈ lw_all := lw_g (lw_at lw_m5 143 rfl) rfl
theorem q1247 : (Jvm.Cond.code ({ cls := "LetMe", name := "lend", desc := "(III)I" } : Jvm.MethodName) prog_1_method_69_code (4 : Nat) (Option.some Jvm.ClassFile.FieldType.int)) ∈ lw_all := lw_g (lw_at lw_m5 144 rfl) rfl
theorem q1248 : (Jvm.Cond.methodLink "LetMe" (390 : Nat) ({ cls := "LetMe$Table", name := "lends", desc := "(III)Z" } : Jvm.MethodName)) ∈ lw_all := lw_g (lw_at lw_m5 145 rfl) rfl
theorem q1253 : (Jvm.Cond.instanceMethod ({ cls := "LetMe", name := "balance", desc := "(I)I" } : Jvm.MethodName)) ∈ lw_all := lw_g (lw_at lw_m5 150 rfl) rfl
theorem q1254 : (Jvm.Cond.selects "LetMe" ({ cls := "LetMe", name := "balance", desc := "(I)I" } : Jvm.MethodName) ({ cls := "LetMe", name := "balance", desc := "(I)I" } : Jvm.MethodName)) ∈ lw_all := lw_g (lw_at lw_m5 151 rfl) rfl
theorem q1255 : (Jvm.Cond.code ({ cls := "LetMe", name := "balance", desc := "(I)I" } : Jvm.MethodName) prog_1_method_70_code (2 : Nat) (Option.some Jvm.ClassFile.FieldType.int)) ∈ lw_all := lw_g (lw_at lw_m5 152 rfl) rfl
theorem q1257 : (Jvm.Cond.instanceMethod ({ cls := "LetMe", name := "quits", desc := "(II)I" } : Jvm.MethodName)) ∈ lw_all := lw_g (lw_at lw_m5 154 rfl) rfl
theorem q1258 : (Jvm.Cond.selects "LetMe" ({ cls := "LetMe", name := "quits", desc := "(II)I" } : Jvm.MethodName) ({ cls := "LetMe", name := "quits", desc := "(II)I" } : Jvm.MethodName)) ∈ lw_all := lw_g (lw_at lw_m5 155 rfl) rfl
theorem q1259 : (Jvm.Cond.code ({ cls := "LetMe", name := "quits", desc := "(II)I" } : Jvm.MethodName) prog_1_method_71_code (4 : Nat) (Option.some Jvm.ClassFile.FieldType.int)) ∈ lw_all := lw_g (lw_at lw_m5 156 rfl) rfl
theorem q1260 : (Jvm.Cond.methodLink "LetMe" (393 : Nat) ({ cls := "java/lang/Math", name := "min", desc := "(II)I" } : Jvm.MethodName)) ∈ lw_all := lw_g (lw_at lw_m5 157 rfl) rfl
theorem q1263 : (Jvm.Cond.methodLink "LetMe" (396 : Nat) ({ cls := "LetMe$Table", name := "owe", desc := "(III)V" } : Jvm.MethodName)) ∈ lw_all := lw_g (lw_at lw_m5 160 rfl) rfl
theorem q1265 : (Jvm.Cond.instanceMethod ({ cls := "LetMe", name := "settle", desc := "()I" } : Jvm.MethodName)) ∈ lw_all := lw_g (lw_at lw_m5 162 rfl) rfl
theorem q1266 : (Jvm.Cond.selects "LetMe" ({ cls := "LetMe", name := "settle", desc := "()I" } : Jvm.MethodName) ({ cls := "LetMe", name := "settle", desc := "()I" } : Jvm.MethodName)) ∈ lw_all := lw_g (lw_at lw_m5 163 rfl) rfl
theorem q1267 : (Jvm.Cond.code ({ cls := "LetMe", name := "settle", desc := "()I" } : Jvm.MethodName) prog_1_method_73_code (5 : Nat) (Option.some Jvm.ClassFile.FieldType.int)) ∈ lw_all := lw_g (lw_at lw_m5 164 rfl) rfl
theorem q1268 : (Jvm.Cond.methodLink "LetMe" (399 : Nat) ({ cls := "LetMe", name := "balances", desc := "()V" } : Jvm.MethodName)) ∈ lw_all := lw_g (lw_at lw_m5 165 rfl) rfl
theorem q1269 : (Jvm.Cond.privateMethod ({ cls := "LetMe", name := "balances", desc := "()V" } : Jvm.MethodName)) ∈ lw_tbl := lw_at lw_m5 166 rfl
theorem q1270 : (Jvm.Cond.instanceMethod ({ cls := "LetMe", name := "balances", desc := "()V" } : Jvm.MethodName)) ∈ lw_all := lw_g (lw_at lw_m5 167 rfl) rfl
theorem q1271 : (Jvm.Cond.code ({ cls := "LetMe", name := "balances", desc := "()V" } : Jvm.MethodName) prog_1_method_72_code (2 : Nat) (Option.none : Option Jvm.ClassFile.FieldType)) ∈ lw_all := lw_g (lw_at lw_m5 168 rfl) rfl
theorem q1272 : (Jvm.Cond.methodLink "LetMe" (401 : Nat) ({ cls := "java/lang/Math", name := "max", desc := "(II)I" } : Jvm.MethodName)) ∈ lw_all := lw_g (lw_at lw_m5 169 rfl) rfl
theorem q1276 : (Jvm.Cond.instanceMethod ({ cls := "LetMe", name := "ties", desc := "()I" } : Jvm.MethodName)) ∈ lw_all := lw_g (lw_at lw_m5 173 rfl) rfl
theorem q1277 : (Jvm.Cond.selects "LetMe" ({ cls := "LetMe", name := "ties", desc := "()I" } : Jvm.MethodName) ({ cls := "LetMe", name := "ties", desc := "()I" } : Jvm.MethodName)) ∈ lw_all := lw_g (lw_at lw_m5 174 rfl) rfl
theorem q1278 : (Jvm.Cond.code ({ cls := "LetMe", name := "ties", desc := "()I" } : Jvm.MethodName) prog_1_method_75_code (1 : Nat) (Option.some Jvm.ClassFile.FieldType.int)) ∈ lw_all := lw_g (lw_at lw_m5 175 rfl) rfl
theorem q1279 : (Jvm.Cond.methodLink "LetMe" (404 : Nat) ({ cls := "LetMe", name := "tiesOf", desc := "()I" } : Jvm.MethodName)) ∈ lw_all := lw_g (lw_at lw_m5 176 rfl) rfl
theorem q1280 : (Jvm.Cond.privateMethod ({ cls := "LetMe", name := "tiesOf", desc := "()I" } : Jvm.MethodName)) ∈ lw_tbl := lw_at lw_m5 177 rfl
theorem q1281 : (Jvm.Cond.instanceMethod ({ cls := "LetMe", name := "tiesOf", desc := "()I" } : Jvm.MethodName)) ∈ lw_all := lw_g (lw_at lw_m5 178 rfl) rfl
theorem q1282 : (Jvm.Cond.code ({ cls := "LetMe", name := "tiesOf", desc := "()I" } : Jvm.MethodName) prog_1_method_74_code (4 : Nat) (Option.some Jvm.ClassFile.FieldType.int)) ∈ lw_all := lw_g (lw_at lw_m5 179 rfl) rfl
theorem q1284 : (Jvm.Cond.instanceMethod ({ cls := "LetMe", name := "extreme", desc := "(I)I" } : Jvm.MethodName)) ∈ lw_all := lw_g (lw_at lw_m5 181 rfl) rfl
theorem q1285 : (Jvm.Cond.selects "LetMe" ({ cls := "LetMe", name := "extreme", desc := "(I)I" } : Jvm.MethodName) ({ cls := "LetMe", name := "extreme", desc := "(I)I" } : Jvm.MethodName)) ∈ lw_all := lw_g (lw_at lw_m5 182 rfl) rfl
theorem q1286 : (Jvm.Cond.code ({ cls := "LetMe", name := "extreme", desc := "(I)I" } : Jvm.MethodName) prog_1_method_77_code (2 : Nat) (Option.some Jvm.ClassFile.FieldType.int)) ∈ lw_all := lw_g (lw_at lw_m5 183 rfl) rfl
theorem q1287 : (Jvm.Cond.methodLink "LetMe" (407 : Nat) ({ cls := "LetMe", name := "extremeOf", desc := "(I)I" } : Jvm.MethodName)) ∈ lw_all := lw_g (lw_at lw_m5 184 rfl) rfl
theorem q1288 : (Jvm.Cond.privateMethod ({ cls := "LetMe", name := "extremeOf", desc := "(I)I" } : Jvm.MethodName)) ∈ lw_tbl := lw_at lw_m5 185 rfl
theorem q1289 : (Jvm.Cond.instanceMethod ({ cls := "LetMe", name := "extremeOf", desc := "(I)I" } : Jvm.MethodName)) ∈ lw_all := lw_g (lw_at lw_m5 186 rfl) rfl
theorem q1290 : (Jvm.Cond.code ({ cls := "LetMe", name := "extremeOf", desc := "(I)I" } : Jvm.MethodName) prog_1_method_76_code (4 : Nat) (Option.some Jvm.ClassFile.FieldType.int)) ∈ lw_all := lw_g (lw_at lw_m5 187 rfl) rfl
theorem q1292 : (Jvm.Cond.instanceMethod ({ cls := "LetMe", name := "simplify", desc := "()I" } : Jvm.MethodName)) ∈ lw_all := lw_g (lw_at lw_m5 189 rfl) rfl
theorem q1293 : (Jvm.Cond.selects "LetMe" ({ cls := "LetMe", name := "simplify", desc := "()I" } : Jvm.MethodName) ({ cls := "LetMe", name := "simplify", desc := "()I" } : Jvm.MethodName)) ∈ lw_all := lw_g (lw_at lw_m5 190 rfl) rfl
theorem q1294 : (Jvm.Cond.code ({ cls := "LetMe", name := "simplify", desc := "()I" } : Jvm.MethodName) prog_1_method_78_code (4 : Nat) (Option.some Jvm.ClassFile.FieldType.int)) ∈ lw_all := lw_g (lw_at lw_m5 191 rfl) rfl
theorem q1295 : (Jvm.Cond.constant "LetMe" (410 : Nat) (999999 : Int32)) ∈ lw_all := lw_g (lw_at lw_m5 192 rfl) rfl
theorem q1297 : (Jvm.Cond.instanceMethod ({ cls := "LetMe", name := "chain", desc := "(I)I" } : Jvm.MethodName)) ∈ lw_all := lw_g (lw_at lw_m5 194 rfl) rfl
theorem q1298 : (Jvm.Cond.selects "LetMe" ({ cls := "LetMe", name := "chain", desc := "(I)I" } : Jvm.MethodName) ({ cls := "LetMe", name := "chain", desc := "(I)I" } : Jvm.MethodName)) ∈ lw_all := lw_g (lw_at lw_m5 195 rfl) rfl
theorem q1299 : (Jvm.Cond.code ({ cls := "LetMe", name := "chain", desc := "(I)I" } : Jvm.MethodName) prog_1_method_79_code (6 : Nat) (Option.some Jvm.ClassFile.FieldType.int)) ∈ lw_all := lw_g (lw_at lw_m5 196 rfl) rfl
theorem q1301 : (Jvm.Cond.instanceMethod ({ cls := "LetMe", name := "even", desc := "(I)I" } : Jvm.MethodName)) ∈ lw_all := lw_g (lw_at lw_m5 198 rfl) rfl
theorem q1302 : (Jvm.Cond.selects "LetMe" ({ cls := "LetMe", name := "even", desc := "(I)I" } : Jvm.MethodName) ({ cls := "LetMe", name := "even", desc := "(I)I" } : Jvm.MethodName)) ∈ lw_all := lw_g (lw_at lw_m5 199 rfl) rfl
theorem q1303 : (Jvm.Cond.code ({ cls := "LetMe", name := "even", desc := "(I)I" } : Jvm.MethodName) prog_1_method_82_code (2 : Nat) (Option.some Jvm.ClassFile.FieldType.int)) ∈ lw_all := lw_g (lw_at lw_m5 200 rfl) rfl
theorem q1304 : (Jvm.Cond.constantLong "LetMe" (417 : Nat) (99 : Int64)) ∈ lw_all := lw_g (lw_at lw_m5 201 rfl) rfl
theorem q1305 : (Jvm.Cond.methodLink "LetMe" (419 : Nat) ({ cls := "LetMe", name := "dinnersFor", desc := "(I)I" } : Jvm.MethodName)) ∈ lw_all := lw_g (lw_at lw_m5 202 rfl) rfl
theorem q1306 : (Jvm.Cond.privateMethod ({ cls := "LetMe", name := "dinnersFor", desc := "(I)I" } : Jvm.MethodName)) ∈ lw_tbl := lw_at lw_m5 203 rfl
theorem q1307 : (Jvm.Cond.instanceMethod ({ cls := "LetMe", name := "dinnersFor", desc := "(I)I" } : Jvm.MethodName)) ∈ lw_all := lw_g (lw_at lw_m5 204 rfl) rfl
theorem q1308 : (Jvm.Cond.code ({ cls := "LetMe", name := "dinnersFor", desc := "(I)I" } : Jvm.MethodName) prog_1_method_81_code (6 : Nat) (Option.some Jvm.ClassFile.FieldType.int)) ∈ lw_all := lw_g (lw_at lw_m5 205 rfl) rfl
theorem q1309 : (Jvm.Cond.methodLink "LetMe" (413 : Nat) ({ cls := "LetMe", name := "evenOf", desc := "(III)I" } : Jvm.MethodName)) ∈ lw_all := lw_g (lw_at lw_m5 206 rfl) rfl
theorem q1310 : (Jvm.Cond.privateMethod ({ cls := "LetMe", name := "evenOf", desc := "(III)I" } : Jvm.MethodName)) ∈ lw_tbl := lw_at lw_m5 207 rfl
theorem q1311 : (Jvm.Cond.instanceMethod ({ cls := "LetMe", name := "evenOf", desc := "(III)I" } : Jvm.MethodName)) ∈ lw_all := lw_g (lw_at lw_m5 208 rfl) rfl
theorem q1312 : (Jvm.Cond.code ({ cls := "LetMe", name := "evenOf", desc := "(III)I" } : Jvm.MethodName) prog_1_method_80_code (6 : Nat) (Option.some Jvm.ClassFile.FieldType.int)) ∈ lw_all := lw_g (lw_at lw_m5 209 rfl) rfl
theorem q1314 : (Jvm.Cond.instanceMethod ({ cls := "LetMe", name := "evenBy", desc := "(II)I" } : Jvm.MethodName)) ∈ lw_all := lw_g (lw_at lw_m5 211 rfl) rfl
theorem q1315 : (Jvm.Cond.selects "LetMe" ({ cls := "LetMe", name := "evenBy", desc := "(II)I" } : Jvm.MethodName) ({ cls := "LetMe", name := "evenBy", desc := "(II)I" } : Jvm.MethodName)) ∈ lw_all := lw_g (lw_at lw_m5 212 rfl) rfl
theorem q1316 : (Jvm.Cond.code ({ cls := "LetMe", name := "evenBy", desc := "(II)I" } : Jvm.MethodName) prog_1_method_83_code (4 : Nat) (Option.some Jvm.ClassFile.FieldType.int)) ∈ lw_all := lw_g (lw_at lw_m5 213 rfl) rfl
theorem q1318 : (Jvm.Cond.instanceMethod ({ cls := "LetMe", name := "comes", desc := "(II)I" } : Jvm.MethodName)) ∈ lw_all := lw_g (lw_at lw_m5 215 rfl) rfl
theorem q1319 : (Jvm.Cond.selects "LetMe" ({ cls := "LetMe", name := "comes", desc := "(II)I" } : Jvm.MethodName) ({ cls := "LetMe", name := "comes", desc := "(II)I" } : Jvm.MethodName)) ∈ lw_all := lw_g (lw_at lw_m5 216 rfl) rfl
theorem q1320 : (Jvm.Cond.code ({ cls := "LetMe", name := "comes", desc := "(II)I" } : Jvm.MethodName) prog_1_method_84_code (3 : Nat) (Option.some Jvm.ClassFile.FieldType.int)) ∈ lw_all := lw_g (lw_at lw_m5 217 rfl) rfl
theorem q1322 : (Jvm.Cond.instanceMethod ({ cls := "LetMe", name := "buys", desc := "()I" } : Jvm.MethodName)) ∈ lw_all := lw_g (lw_at lw_m5 219 rfl) rfl
theorem q1323 : (Jvm.Cond.selects "LetMe" ({ cls := "LetMe", name := "buys", desc := "()I" } : Jvm.MethodName) ({ cls := "LetMe", name := "buys", desc := "()I" } : Jvm.MethodName)) ∈ lw_all := lw_g (lw_at lw_m5 220 rfl) rfl
theorem q1324 : (Jvm.Cond.code ({ cls := "LetMe", name := "buys", desc := "()I" } : Jvm.MethodName) prog_1_method_85_code (1 : Nat) (Option.some Jvm.ClassFile.FieldType.int)) ∈ lw_all := lw_g (lw_at lw_m5 221 rfl) rfl
theorem q1325 : (Jvm.Cond.methodLink "LetMe" (422 : Nat) ({ cls := "LetMe$Table", name := "buys", desc := "()I" } : Jvm.MethodName)) ∈ lw_all := lw_g (lw_at lw_m5 222 rfl) rfl
theorem q1330 : (Jvm.Cond.instanceMethod ({ cls := "LetMe", name := "round", desc := "()I" } : Jvm.MethodName)) ∈ lw_all := lw_g (lw_at lw_m5 227 rfl) rfl
theorem q1331 : (Jvm.Cond.selects "LetMe" ({ cls := "LetMe", name := "round", desc := "()I" } : Jvm.MethodName) ({ cls := "LetMe", name := "round", desc := "()I" } : Jvm.MethodName)) ∈ lw_all := lw_g (lw_at lw_m5 228 rfl) rfl
theorem q1332 : (Jvm.Cond.code ({ cls := "LetMe", name := "round", desc := "()I" } : Jvm.MethodName) prog_1_method_86_code (1 : Nat) (Option.some Jvm.ClassFile.FieldType.int)) ∈ lw_all := lw_g (lw_at lw_m5 229 rfl) rfl
theorem q1333 : (Jvm.Cond.methodLink "LetMe" (425 : Nat) ({ cls := "LetMe$Table", name := "round", desc := "()I" } : Jvm.MethodName)) ∈ lw_all := lw_g (lw_at lw_m5 230 rfl) rfl
theorem q1339 : (Jvm.Cond.instanceMethod ({ cls := "LetMe", name := "drinks", desc := "(I)I" } : Jvm.MethodName)) ∈ lw_all := lw_g (lw_at lw_m5 236 rfl) rfl
theorem q1340 : (Jvm.Cond.selects "LetMe" ({ cls := "LetMe", name := "drinks", desc := "(I)I" } : Jvm.MethodName) ({ cls := "LetMe", name := "drinks", desc := "(I)I" } : Jvm.MethodName)) ∈ lw_all := lw_g (lw_at lw_m5 237 rfl) rfl
theorem q1341 : (Jvm.Cond.code ({ cls := "LetMe", name := "drinks", desc := "(I)I" } : Jvm.MethodName) prog_1_method_87_code (2 : Nat) (Option.some Jvm.ClassFile.FieldType.int)) ∈ lw_all := lw_g (lw_at lw_m5 238 rfl) rfl
theorem q1343 : (Jvm.Cond.instanceMethod ({ cls := "LetMe", name := "evenRounds", desc := "()I" } : Jvm.MethodName)) ∈ lw_all := lw_g (lw_at lw_m6 0 rfl) rfl
theorem q1344 : (Jvm.Cond.selects "LetMe" ({ cls := "LetMe", name := "evenRounds", desc := "()I" } : Jvm.MethodName) ({ cls := "LetMe", name := "evenRounds", desc := "()I" } : Jvm.MethodName)) ∈ lw_all := lw_g (lw_at lw_m6 1 rfl) rfl
theorem q1345 : (Jvm.Cond.code ({ cls := "LetMe", name := "evenRounds", desc := "()I" } : Jvm.MethodName) prog_1_method_89_code (2 : Nat) (Option.some Jvm.ClassFile.FieldType.int)) ∈ lw_all := lw_g (lw_at lw_m6 2 rfl) rfl
theorem q1346 : (Jvm.Cond.methodLink "LetMe" (431 : Nat) ({ cls := "LetMe", name := "isEven", desc := "(LLetMe$Table;)Z" } : Jvm.MethodName)) ∈ lw_all := lw_g (lw_at lw_m6 3 rfl) rfl
theorem q1347 : (Jvm.Cond.static ({ cls := "LetMe", name := "isEven", desc := "(LLetMe$Table;)Z" } : Jvm.MethodName)) ∈ lw_all := lw_g (lw_at lw_m6 4 rfl) rfl
theorem q1348 : (Jvm.Cond.code ({ cls := "LetMe", name := "isEven", desc := "(LLetMe$Table;)Z" } : Jvm.MethodName) prog_1_method_88_code (3 : Nat) (Option.some Jvm.ClassFile.FieldType.boolean)) ∈ lw_all := lw_g (lw_at lw_m6 5 rfl) rfl
theorem q1350 : (Jvm.Cond.instanceMethod ({ cls := "LetMe", name := "giftAt", desc := "(III)I" } : Jvm.MethodName)) ∈ lw_all := lw_g (lw_at lw_m6 7 rfl) rfl
theorem q1351 : (Jvm.Cond.selects "LetMe" ({ cls := "LetMe", name := "giftAt", desc := "(III)I" } : Jvm.MethodName) ({ cls := "LetMe", name := "giftAt", desc := "(III)I" } : Jvm.MethodName)) ∈ lw_all := lw_g (lw_at lw_m6 8 rfl) rfl
theorem q1352 : (Jvm.Cond.code ({ cls := "LetMe", name := "giftAt", desc := "(III)I" } : Jvm.MethodName) prog_1_method_92_code (6 : Nat) (Option.some Jvm.ClassFile.FieldType.int)) ∈ lw_all := lw_g (lw_at lw_m6 9 rfl) rfl
theorem q1353 : (Jvm.Cond.methodLink "LetMe" (437 : Nat) ({ cls := "LetMe", name := "isGift", desc := "(II)Z" } : Jvm.MethodName)) ∈ lw_all := lw_g (lw_at lw_m6 10 rfl) rfl
theorem q1354 : (Jvm.Cond.static ({ cls := "LetMe", name := "isGift", desc := "(II)Z" } : Jvm.MethodName)) ∈ lw_all := lw_g (lw_at lw_m6 11 rfl) rfl
theorem q1355 : (Jvm.Cond.code ({ cls := "LetMe", name := "isGift", desc := "(II)Z" } : Jvm.MethodName) prog_1_method_91_code (2 : Nat) (Option.some Jvm.ClassFile.FieldType.boolean)) ∈ lw_all := lw_g (lw_at lw_m6 12 rfl) rfl
theorem q1356 : (Jvm.Cond.constantLong "LetMe" (435 : Nat) (100 : Int64)) ∈ lw_all := lw_g (lw_at lw_m6 13 rfl) rfl
theorem q1357 : (Jvm.Cond.constantLong "LetMe" (440 : Nat) (60 : Int64)) ∈ lw_all := lw_g (lw_at lw_m6 14 rfl) rfl
theorem q1358 : (Jvm.Cond.methodLink "LetMe" (442 : Nat) ({ cls := "LetMe", name := "next", desc := "(II)I" } : Jvm.MethodName)) ∈ lw_all := lw_g (lw_at lw_m6 15 rfl) rfl
theorem q1359 : (Jvm.Cond.static ({ cls := "LetMe", name := "next", desc := "(II)I" } : Jvm.MethodName)) ∈ lw_all := lw_g (lw_at lw_m6 16 rfl) rfl
theorem q1360 : (Jvm.Cond.code ({ cls := "LetMe", name := "next", desc := "(II)I" } : Jvm.MethodName) prog_1_method_90_code (2 : Nat) (Option.some Jvm.ClassFile.FieldType.int)) ∈ lw_all := lw_g (lw_at lw_m6 17 rfl) rfl
theorem q1362 : (Jvm.Cond.instanceMethod ({ cls := "LetMe", name := "ends", desc := "(IIII)I" } : Jvm.MethodName)) ∈ lw_all := lw_g (lw_at lw_m6 19 rfl) rfl
theorem q1363 : (Jvm.Cond.selects "LetMe" ({ cls := "LetMe", name := "ends", desc := "(IIII)I" } : Jvm.MethodName) ({ cls := "LetMe", name := "ends", desc := "(IIII)I" } : Jvm.MethodName)) ∈ lw_all := lw_g (lw_at lw_m6 20 rfl) rfl
theorem q1364 : (Jvm.Cond.code ({ cls := "LetMe", name := "ends", desc := "(IIII)I" } : Jvm.MethodName) prog_1_method_94_code (5 : Nat) (Option.some Jvm.ClassFile.FieldType.int)) ∈ lw_all := lw_g (lw_at lw_m6 21 rfl) rfl
theorem q1365 : (Jvm.Cond.methodLink "LetMe" (448 : Nat) ({ cls := "LetMe", name := "endOf", desc := "(IIII)I" } : Jvm.MethodName)) ∈ lw_all := lw_g (lw_at lw_m6 22 rfl) rfl
theorem q1366 : (Jvm.Cond.privateMethod ({ cls := "LetMe", name := "endOf", desc := "(IIII)I" } : Jvm.MethodName)) ∈ lw_tbl := lw_at lw_m6 23 rfl
theorem q1367 : (Jvm.Cond.instanceMethod ({ cls := "LetMe", name := "endOf", desc := "(IIII)I" } : Jvm.MethodName)) ∈ lw_all := lw_g (lw_at lw_m6 24 rfl) rfl
theorem q1368 : (Jvm.Cond.code ({ cls := "LetMe", name := "endOf", desc := "(IIII)I" } : Jvm.MethodName) prog_1_method_93_code (7 : Nat) (Option.some Jvm.ClassFile.FieldType.int)) ∈ lw_all := lw_g (lw_at lw_m6 25 rfl) rfl
theorem q1370 : (Jvm.Cond.instanceMethod ({ cls := "LetMe", name := "wasted", desc := "(IIII)I" } : Jvm.MethodName)) ∈ lw_all := lw_g (lw_at lw_m6 27 rfl) rfl
theorem q1371 : (Jvm.Cond.selects "LetMe" ({ cls := "LetMe", name := "wasted", desc := "(IIII)I" } : Jvm.MethodName) ({ cls := "LetMe", name := "wasted", desc := "(IIII)I" } : Jvm.MethodName)) ∈ lw_all := lw_g (lw_at lw_m6 28 rfl) rfl
theorem q1372 : (Jvm.Cond.code ({ cls := "LetMe", name := "wasted", desc := "(IIII)I" } : Jvm.MethodName) prog_1_method_95_code (5 : Nat) (Option.some Jvm.ClassFile.FieldType.int)) ∈ lw_all := lw_g (lw_at lw_m6 29 rfl) rfl
theorem q1374 : (Jvm.Cond.instanceMethod ({ cls := "LetMe", name := "gift", desc := "(III)I" } : Jvm.MethodName)) ∈ lw_all := lw_g (lw_at lw_m6 31 rfl) rfl
theorem q1375 : (Jvm.Cond.selects "LetMe" ({ cls := "LetMe", name := "gift", desc := "(III)I" } : Jvm.MethodName) ({ cls := "LetMe", name := "gift", desc := "(III)I" } : Jvm.MethodName)) ∈ lw_all := lw_g (lw_at lw_m6 32 rfl) rfl
theorem q1376 : (Jvm.Cond.code ({ cls := "LetMe", name := "gift", desc := "(III)I" } : Jvm.MethodName) prog_1_method_96_code (4 : Nat) (Option.some Jvm.ClassFile.FieldType.int)) ∈ lw_all := lw_g (lw_at lw_m6 33 rfl) rfl
theorem q1377 : (Jvm.Cond.methodLink "LetMe" (452 : Nat) ({ cls := "LetMe$Table", name := "gives", desc := "(III)I" } : Jvm.MethodName)) ∈ lw_all := lw_g (lw_at lw_m6 34 rfl) rfl
theorem q1383 : (Jvm.Cond.instanceMethod ({ cls := "LetMe", name := "receipts", desc := "(IIII)I" } : Jvm.MethodName)) ∈ lw_all := lw_g (lw_at lw_m6 40 rfl) rfl
theorem q1384 : (Jvm.Cond.selects "LetMe" ({ cls := "LetMe", name := "receipts", desc := "(IIII)I" } : Jvm.MethodName) ({ cls := "LetMe", name := "receipts", desc := "(IIII)I" } : Jvm.MethodName)) ∈ lw_all := lw_g (lw_at lw_m6 41 rfl) rfl
theorem q1385 : (Jvm.Cond.codeWith ({ cls := "LetMe", name := "receipts", desc := "(IIII)I" } : Jvm.MethodName) prog_1_method_97_code (9 : Nat) (Option.some Jvm.ClassFile.FieldType.int) [((5 : Nat), (265 : Nat), (268 : Nat), (41 : Nat))]) ∈ lw_all := lw_g (lw_at lw_m6 42 rfl) rfl
theorem q1386 : (Jvm.Cond.methodLink "LetMe" (455 : Nat) ({ cls := "LetMe", name := "sizeOf", desc := "(Ljava/lang/Object;)I" } : Jvm.MethodName)) ∈ lw_all := lw_g (lw_at lw_m6 43 rfl) rfl
theorem q1387 : (Jvm.Cond.static ({ cls := "LetMe", name := "sizeOf", desc := "(Ljava/lang/Object;)I" } : Jvm.MethodName)) ∈ lw_all := lw_g (lw_at lw_m6 44 rfl) rfl
theorem q1388 : (Jvm.Cond.code ({ cls := "LetMe", name := "sizeOf", desc := "(Ljava/lang/Object;)I" } : Jvm.MethodName) prog_1_method_3_code (2 : Nat) (Option.some Jvm.ClassFile.FieldType.int)) ∈ lw_all := lw_g (lw_at lw_m6 45 rfl) rfl
theorem q1389 : (Jvm.Cond.methodLink "LetMe" (458 : Nat) ({ cls := "LetMe", name := "write", desc := "(IIJ)Z" } : Jvm.MethodName)) ∈ lw_all := lw_g (lw_at lw_m6 46 rfl) rfl
theorem q1391 : (Jvm.Cond.instanceMethod ({ cls := "LetMe", name := "remembers", desc := "(I)I" } : Jvm.MethodName)) ∈ lw_all := lw_g (lw_at lw_m6 48 rfl) rfl
theorem q1392 : (Jvm.Cond.selects "LetMe" ({ cls := "LetMe", name := "remembers", desc := "(I)I" } : Jvm.MethodName) ({ cls := "LetMe", name := "remembers", desc := "(I)I" } : Jvm.MethodName)) ∈ lw_all := lw_g (lw_at lw_m6 49 rfl) rfl
theorem q1393 : (Jvm.Cond.codeWith ({ cls := "LetMe", name := "remembers", desc := "(I)I" } : Jvm.MethodName) prog_1_method_98_code (9 : Nat) (Option.some Jvm.ClassFile.FieldType.int) [((5 : Nat), (161 : Nat), (162 : Nat), (41 : Nat))]) ∈ lw_all := lw_g (lw_at lw_m6 50 rfl) rfl
theorem q1394 : (Jvm.Cond.constantLong "LetMe" (462 : Nat) (-9999999 : Int64)) ∈ lw_all := lw_g (lw_at lw_m6 51 rfl) rfl
theorem q1395 : (Jvm.Cond.constantLong "LetMe" (464 : Nat) (9999999 : Int64)) ∈ lw_all := lw_g (lw_at lw_m6 52 rfl) rfl
theorem q1397 : (Jvm.Cond.instanceMethod ({ cls := "LetMe", name := "live", desc := "(I)I" } : Jvm.MethodName)) ∈ lw_all := lw_g (lw_at lw_m6 54 rfl) rfl
theorem q1398 : (Jvm.Cond.selects "LetMe" ({ cls := "LetMe", name := "live", desc := "(I)I" } : Jvm.MethodName) ({ cls := "LetMe", name := "live", desc := "(I)I" } : Jvm.MethodName)) ∈ lw_all := lw_g (lw_at lw_m6 55 rfl) rfl
theorem q1399 : (Jvm.Cond.code ({ cls := "LetMe", name := "live", desc := "(I)I" } : Jvm.MethodName) prog_1_method_99_code (3 : Nat) (Option.some Jvm.ClassFile.FieldType.int)) ∈ lw_all := lw_g (lw_at lw_m6 56 rfl) rfl
theorem q1400 : (Jvm.Cond.classLink "LetMe" (466 : Nat) "LetMe$Living") ∈ lw_all := lw_g (lw_at lw_m6 57 rfl) rfl
theorem q1402 : (Jvm.Cond.methodLink "LetMe" (468 : Nat) ({ cls := "LetMe$Living", name := "<init>", desc := "(LLetMe$Table;I)V" } : Jvm.MethodName)) ∈ lw_all := lw_g (lw_at lw_m6 59 rfl) rfl
theorem q1411 : (Jvm.Cond.fieldLinkNest "LetMe" (492 : Nat) "LetMe$Living" "done" "I" "LetMe") ∈ lw_tbl := lw_at lw_m6 68 rfl
theorem q1413 : (Jvm.Cond.fieldLinkNest "LetMe" (475 : Nat) "LetMe$Living" "missed" "I" "LetMe") ∈ lw_tbl := lw_at lw_m6 70 rfl
theorem q1415 : (Jvm.Cond.fieldLinkNest "LetMe" (478 : Nat) "LetMe$Living" "dinners" "I" "LetMe") ∈ lw_tbl := lw_at lw_m6 72 rfl
theorem q1417 : (Jvm.Cond.fieldLinkNest "LetMe" (481 : Nat) "LetMe$Living" "draws" "I" "LetMe") ∈ lw_tbl := lw_at lw_m6 74 rfl
theorem q1419 : (Jvm.Cond.fieldLinkNest "LetMe" (484 : Nat) "LetMe$Living" "rounds" "I" "LetMe") ∈ lw_tbl := lw_at lw_m6 76 rfl
theorem q1425 : (Jvm.Cond.fieldLinkNest "LetMe" (485 : Nat) "LetMe$Living" "isLeft" "Z" "LetMe") ∈ lw_tbl := lw_at lw_m6 82 rfl
theorem q1445 : (Jvm.Cond.methodLink "LetMe" (471 : Nat) ({ cls := "LetMe$Loop", name := "all", desc := "(LLetMe$Living;)V" } : Jvm.MethodName)) ∈ lw_all := lw_g (lw_at lw_m6 102 rfl) rfl
theorem q1506 : (Jvm.Cond.instanceMethod ({ cls := "LetMe", name := "lived", desc := "(I)I" } : Jvm.MethodName)) ∈ lw_all := lw_g (lw_at lw_m6 163 rfl) rfl
theorem q1507 : (Jvm.Cond.selects "LetMe" ({ cls := "LetMe", name := "lived", desc := "(I)I" } : Jvm.MethodName) ({ cls := "LetMe", name := "lived", desc := "(I)I" } : Jvm.MethodName)) ∈ lw_all := lw_g (lw_at lw_m6 164 rfl) rfl
theorem q1508 : (Jvm.Cond.code ({ cls := "LetMe", name := "lived", desc := "(I)I" } : Jvm.MethodName) prog_1_method_100_code (2 : Nat) (Option.some Jvm.ClassFile.FieldType.int)) ∈ lw_all := lw_g (lw_at lw_m6 165 rfl) rfl
theorem q1509 : (Jvm.Cond.constantLong "LetMe" (495 : Nat) (4 : Int64)) ∈ lw_all := lw_g (lw_at lw_m6 166 rfl) rfl
theorem q1511 : (Jvm.Cond.instanceMethod ({ cls := "LetMe", name := "mean", desc := "(III)Z" } : Jvm.MethodName)) ∈ lw_all := lw_g (lw_at lw_m6 168 rfl) rfl
theorem q1512 : (Jvm.Cond.selects "LetMe" ({ cls := "LetMe", name := "mean", desc := "(III)Z" } : Jvm.MethodName) ({ cls := "LetMe", name := "mean", desc := "(III)Z" } : Jvm.MethodName)) ∈ lw_all := lw_g (lw_at lw_m6 169 rfl) rfl
theorem q1513 : (Jvm.Cond.code ({ cls := "LetMe", name := "mean", desc := "(III)Z" } : Jvm.MethodName) prog_1_method_101_code (7 : Nat) (Option.some Jvm.ClassFile.FieldType.boolean)) ∈ lw_all := lw_g (lw_at lw_m6 170 rfl) rfl
theorem q1514 : (Jvm.Cond.constantLong "LetMe" (497 : Nat) (20 : Int64)) ∈ lw_all := lw_g (lw_at lw_m6 171 rfl) rfl
theorem q1516 : (Jvm.Cond.instanceMethod ({ cls := "LetMe", name := "mark", desc := "()I" } : Jvm.MethodName)) ∈ lw_all := lw_g (lw_at lw_m6 173 rfl) rfl
theorem q1517 : (Jvm.Cond.selects "LetMe" ({ cls := "LetMe", name := "mark", desc := "()I" } : Jvm.MethodName) ({ cls := "LetMe", name := "mark", desc := "()I" } : Jvm.MethodName)) ∈ lw_all := lw_g (lw_at lw_m6 174 rfl) rfl
theorem q1518 : (Jvm.Cond.code ({ cls := "LetMe", name := "mark", desc := "()I" } : Jvm.MethodName) prog_1_method_102_code (1 : Nat) (Option.some Jvm.ClassFile.FieldType.int)) ∈ lw_all := lw_g (lw_at lw_m6 175 rfl) rfl
theorem q1519 : (Jvm.Cond.methodLink "LetMe" (502 : Nat) ({ cls := "LetMe$House", name := "be", desc := "(LLetMe$House;)V" } : Jvm.MethodName)) ∈ lw_all := lw_g (lw_at lw_m6 176 rfl) rfl
theorem q1525 : (Jvm.Cond.instanceMethod ({ cls := "LetMe", name := "back", desc := "()I" } : Jvm.MethodName)) ∈ lw_all := lw_g (lw_at lw_m6 182 rfl) rfl
theorem q1526 : (Jvm.Cond.selects "LetMe" ({ cls := "LetMe", name := "back", desc := "()I" } : Jvm.MethodName) ({ cls := "LetMe", name := "back", desc := "()I" } : Jvm.MethodName)) ∈ lw_all := lw_g (lw_at lw_m6 183 rfl) rfl
theorem q1527 : (Jvm.Cond.code ({ cls := "LetMe", name := "back", desc := "()I" } : Jvm.MethodName) prog_1_method_103_code (1 : Nat) (Option.some Jvm.ClassFile.FieldType.int)) ∈ lw_all := lw_g (lw_at lw_m6 184 rfl) rfl
theorem in_X0 : ∀ w ∈ wsX00, w ∈ lw_all := lw_in wsX00 [402, 404, 406, 408, 410, 412, 414, 416, 418, 420, 422, 424, 426, 428, 430, 432, 434, 436, 438, 440, 442, 444, 446] (by decide +kernel) (by decide +kernel)
