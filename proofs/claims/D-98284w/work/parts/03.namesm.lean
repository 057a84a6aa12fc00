/-! LetMeModel -/
set_option maxRecDepth 100000
def RX6 : String := "LetMeModel"
def TX6 : u_T := fun k => match k with
  | 0 => ("LetMeModel", "at", "[I", true)
  | 1 => ("LetMeModel", "names", "[J", true)
  | 2 => ("LetMeModel", "status", "I", false)
  | 3 => ("LetMeModel", "top", "J", false)
  | 4 => ("LetMeModel", "bottom", "J", false)
  | 5 => ("LetMeModel", "sort", "[I", true)
  | 6 => ("LetMeModel", "trayMany", "[I", true)
  | 7 => ("LetMeModel", "trays", "[J", true)
  | 8 => ("LetMeModel", "tape", "[B", true)
  | 9 => ("LetMeModel", "text", "[B", true)
  | 10 => ("LetMeModel", "taped", "I", false)
  | 11 => ("LetMeModel", "size", "I", false)
  | 12 => ("LetMeModel", "token", "I", false)
  | 13 => ("LetMeModel", "from", "I", false)
  | 14 => ("LetMeModel", "end", "I", false)
  | 15 => ("LetMeModel", "value", "I", false)
  | 16 => ("LetMeModel", "faultKind", "I", false)
  | 17 => ("LetMeModel", "faultPlace", "I", false)
  | 18 => ("LetMeModel", "faults", "I", false)
  | 19 => ("LetMeModel", "seen", "I", false)
  | 20 => ("LetMeModel", "told0", "I", false)
  | 21 => ("LetMeModel", "opened", "[I", true)
  | 22 => ("LetMeModel", "depth", "I", false)
  | 23 => ("LetMeModel", "counted", "I", false)
  | 24 => ("LetMeModel", "parts", "[I", true)
  | 25 => ("LetMeModel", "left", "[I", true)
  | 26 => ("LetMeModel", "fresh", "[I", true)
  | 27 => ("LetMeModel", "given", "I", false)
  | 28 => ("LetMeModel", "drawn", "I", false)
  | 29 => ("LetMeModel", "ranSteps", "I", false)
  | 30 => ("LetMeModel", "loops", "[I", true)
  | 31 => ("LetMeModel", "ran", "[I", true)
  | 32 => ("LetMeModel", "told1", "[I", true)
  | 33 => ("LetMeModel", "isTold", "Z", false)
  | _ => ("LetMeModel", "marks", "I", false)
def tyX6 : Nat → FieldType := fun k => match k with
  | 0 => .array .int
  | 1 => .array .long
  | 2 => .int
  | 3 => .long
  | 4 => .long
  | 5 => .array .int
  | 6 => .array .int
  | 7 => .array .long
  | 8 => .array .byte
  | 9 => .array .byte
  | 10 => .int
  | 11 => .int
  | 12 => .int
  | 13 => .int
  | 14 => .int
  | 15 => .int
  | 16 => .int
  | 17 => .int
  | 18 => .int
  | 19 => .int
  | 20 => .int
  | 21 => .array .int
  | 22 => .int
  | 23 => .int
  | 24 => .array .int
  | 25 => .array .int
  | 26 => .array .int
  | 27 => .int
  | 28 => .int
  | 29 => .int
  | 30 => .array .int
  | 31 => .array .int
  | 32 => .array .int
  | 33 => .boolean
  | _ => .int
abbrev wsX60 : List Cond := u_ws RX6 TX6 35
set_option maxRecDepth 100000 in
theorem nmX6 : ∀ a, a < 35 → ∀ b, b < 35 → a ≠ b → (TX6 a).2.1 ≠ (TX6 b).2.1 := by decide +kernel
set_option maxRecDepth 100000 in
theorem tyX6_ok : ∀ k, k < 35 → parseFieldDescriptor (TX6 k).2.2.1 = some (tyX6 k) := by decide +kernel
abbrev cX6_init : ByteArray := prog_16_method_1_code
def yX6_init : MethodName := ⟨RX6, "<init>", "()V"⟩
def dkwX6_init_6 : List UInt8 := [181, 0, 62, 42, 3, 182, 0, 65, 177]
abbrev dktX6_init_6 : List UInt8 := dkwX6_init_6 ++ []
def dkwX6_init_5 : List UInt8 := [188, 10, 181, 0, 53, 42, 16, 80, 188, 10, 181, 0, 56, 42, 8, 188, 10, 181, 0, 59, 42, 8, 188, 10]
abbrev dktX6_init_5 : List UInt8 := dkwX6_init_5 ++ dktX6_init_6
def dkwX6_init_4 : List UInt8 := [188, 10, 181, 0, 44, 42, 16, 64, 188, 10, 181, 0, 47, 42, 16, 6, 188, 10, 181, 0, 50, 42, 16, 36]
abbrev dktX6_init_4 : List UInt8 := dkwX6_init_4 ++ dktX6_init_5
def dkwX6_init_3 : List UInt8 := [181, 0, 30, 42, 17, 3, 132, 188, 8, 181, 0, 34, 42, 2, 181, 0, 37, 42, 2, 181, 0, 41, 42, 6]
abbrev dktX6_init_3 : List UInt8 := dkwX6_init_3 ++ dktX6_init_4
def dkwX6_init_2 : List UInt8 := [2, 79, 89, 6, 2, 79, 181, 0, 24, 42, 17, 0, 240, 188, 11, 181, 0, 27, 42, 17, 3, 132, 188, 8]
abbrev dktX6_init_2 : List UInt8 := dkwX6_init_2 ++ dktX6_init_3
def dkwX6_init_1 : List UInt8 := [181, 0, 17, 42, 7, 188, 10, 181, 0, 21, 42, 7, 188, 10, 89, 3, 2, 79, 89, 4, 2, 79, 89, 5]
abbrev dktX6_init_1 : List UInt8 := dkwX6_init_1 ++ dktX6_init_2
def dkwX6_init_0 : List UInt8 := [42, 183, 0, 1, 42, 17, 11, 184, 188, 10, 181, 0, 7, 42, 16, 36, 188, 11, 181, 0, 13, 42, 10]
abbrev dktX6_init_0 : List UInt8 := dkwX6_init_0 ++ dktX6_init_1
theorem dksX6_init_0 : cX6_init.data.toList.drop 0 = dktX6_init_0 := by decide +kernel
theorem dksX6_init_1 : cX6_init.data.toList.drop 23 = dktX6_init_1 := dk_seg dksX6_init_0 23 rfl rfl
theorem dksX6_init_2 : cX6_init.data.toList.drop 47 = dktX6_init_2 := dk_seg dksX6_init_1 24 rfl rfl
theorem dksX6_init_3 : cX6_init.data.toList.drop 71 = dktX6_init_3 := dk_seg dksX6_init_2 24 rfl rfl
theorem dksX6_init_4 : cX6_init.data.toList.drop 95 = dktX6_init_4 := dk_seg dksX6_init_3 24 rfl rfl
theorem dksX6_init_5 : cX6_init.data.toList.drop 119 = dktX6_init_5 := dk_seg dksX6_init_4 24 rfl rfl
theorem dksX6_init_6 : cX6_init.data.toList.drop 143 = dktX6_init_6 := dk_seg dksX6_init_5 24 rfl rfl
theorem dX6_init_0 : decode cX6_init 0 = .ok (.aload_n 0, 1) := dk_42 (dk_at dksX6_init_0 0 rfl rfl)
theorem dX6_init_1 : decode cX6_init 1 = .ok (.invokespecial 1, 3) := dk_183 0 1 (dk_at dksX6_init_0 1 rfl rfl)
theorem dX6_init_4 : decode cX6_init 4 = .ok (.aload_n 0, 1) := dk_42 (dk_at dksX6_init_0 4 rfl rfl)
theorem dX6_init_5 : decode cX6_init 5 = .ok (.sipush 3000, 3) := dk_17 11 184 (dk_at dksX6_init_0 5 rfl rfl)
theorem dX6_init_8 : decode cX6_init 8 = .ok (.newarray .int, 2) := dk_188_10 (dk_at dksX6_init_0 8 rfl rfl)
theorem dX6_init_10 : decode cX6_init 10 = .ok (.putfield 7, 3) := dk_181 0 7 (dk_at dksX6_init_0 10 rfl rfl)
theorem dX6_init_13 : decode cX6_init 13 = .ok (.aload_n 0, 1) := dk_42 (dk_at dksX6_init_0 13 rfl rfl)
theorem dX6_init_14 : decode cX6_init 14 = .ok (.bipush 36, 2) := dk_16 36 (dk_at dksX6_init_0 14 rfl rfl)
theorem dX6_init_16 : decode cX6_init 16 = .ok (.newarray .long, 2) := dk_188_11 (dk_at dksX6_init_0 16 rfl rfl)
theorem dX6_init_18 : decode cX6_init 18 = .ok (.putfield 13, 3) := dk_181 0 13 (dk_at dksX6_init_0 18 rfl rfl)
theorem dX6_init_21 : decode cX6_init 21 = .ok (.aload_n 0, 1) := dk_42 (dk_at dksX6_init_0 21 rfl rfl)
theorem dX6_init_22 : decode cX6_init 22 = .ok (.lconst 1, 1) := dk_10 (dk_at dksX6_init_0 22 rfl rfl)
theorem dX6_init_23 : decode cX6_init 23 = .ok (.putfield 17, 3) := dk_181 0 17 (dk_at dksX6_init_1 0 rfl rfl)
theorem dX6_init_26 : decode cX6_init 26 = .ok (.aload_n 0, 1) := dk_42 (dk_at dksX6_init_1 3 rfl rfl)
theorem dX6_init_27 : decode cX6_init 27 = .ok (.iconst 4, 1) := dk_7 (dk_at dksX6_init_1 4 rfl rfl)
theorem dX6_init_28 : decode cX6_init 28 = .ok (.newarray .int, 2) := dk_188_10 (dk_at dksX6_init_1 5 rfl rfl)
theorem dX6_init_30 : decode cX6_init 30 = .ok (.putfield 21, 3) := dk_181 0 21 (dk_at dksX6_init_1 7 rfl rfl)
theorem dX6_init_33 : decode cX6_init 33 = .ok (.aload_n 0, 1) := dk_42 (dk_at dksX6_init_1 10 rfl rfl)
theorem dX6_init_34 : decode cX6_init 34 = .ok (.iconst 4, 1) := dk_7 (dk_at dksX6_init_1 11 rfl rfl)
theorem dX6_init_35 : decode cX6_init 35 = .ok (.newarray .int, 2) := dk_188_10 (dk_at dksX6_init_1 12 rfl rfl)
theorem dX6_init_37 : decode cX6_init 37 = .ok (.dup, 1) := dk_89 (dk_at dksX6_init_1 14 rfl rfl)
theorem dX6_init_38 : decode cX6_init 38 = .ok (.iconst 0, 1) := dk_3 (dk_at dksX6_init_1 15 rfl rfl)
theorem dX6_init_39 : decode cX6_init 39 = .ok (.iconst (-1), 1) := dk_2 (dk_at dksX6_init_1 16 rfl rfl)
theorem dX6_init_40 : decode cX6_init 40 = .ok (.iastore, 1) := dk_79 (dk_at dksX6_init_1 17 rfl rfl)
theorem dX6_init_41 : decode cX6_init 41 = .ok (.dup, 1) := dk_89 (dk_at dksX6_init_1 18 rfl rfl)
theorem dX6_init_42 : decode cX6_init 42 = .ok (.iconst 1, 1) := dk_4 (dk_at dksX6_init_1 19 rfl rfl)
theorem dX6_init_43 : decode cX6_init 43 = .ok (.iconst (-1), 1) := dk_2 (dk_at dksX6_init_1 20 rfl rfl)
theorem dX6_init_44 : decode cX6_init 44 = .ok (.iastore, 1) := dk_79 (dk_at dksX6_init_1 21 rfl rfl)
theorem dX6_init_45 : decode cX6_init 45 = .ok (.dup, 1) := dk_89 (dk_at dksX6_init_1 22 rfl rfl)
theorem dX6_init_46 : decode cX6_init 46 = .ok (.iconst 2, 1) := dk_5 (dk_at dksX6_init_1 23 rfl rfl)
theorem dX6_init_47 : decode cX6_init 47 = .ok (.iconst (-1), 1) := dk_2 (dk_at dksX6_init_2 0 rfl rfl)
theorem dX6_init_48 : decode cX6_init 48 = .ok (.iastore, 1) := dk_79 (dk_at dksX6_init_2 1 rfl rfl)
theorem dX6_init_49 : decode cX6_init 49 = .ok (.dup, 1) := dk_89 (dk_at dksX6_init_2 2 rfl rfl)
theorem dX6_init_50 : decode cX6_init 50 = .ok (.iconst 3, 1) := dk_6 (dk_at dksX6_init_2 3 rfl rfl)
theorem dX6_init_51 : decode cX6_init 51 = .ok (.iconst (-1), 1) := dk_2 (dk_at dksX6_init_2 4 rfl rfl)
theorem dX6_init_52 : decode cX6_init 52 = .ok (.iastore, 1) := dk_79 (dk_at dksX6_init_2 5 rfl rfl)
theorem dX6_init_53 : decode cX6_init 53 = .ok (.putfield 24, 3) := dk_181 0 24 (dk_at dksX6_init_2 6 rfl rfl)
theorem dX6_init_56 : decode cX6_init 56 = .ok (.aload_n 0, 1) := dk_42 (dk_at dksX6_init_2 9 rfl rfl)
theorem dX6_init_57 : decode cX6_init 57 = .ok (.sipush 240, 3) := dk_17 0 240 (dk_at dksX6_init_2 10 rfl rfl)
theorem dX6_init_60 : decode cX6_init 60 = .ok (.newarray .long, 2) := dk_188_11 (dk_at dksX6_init_2 13 rfl rfl)
theorem dX6_init_62 : decode cX6_init 62 = .ok (.putfield 27, 3) := dk_181 0 27 (dk_at dksX6_init_2 15 rfl rfl)
theorem dX6_init_65 : decode cX6_init 65 = .ok (.aload_n 0, 1) := dk_42 (dk_at dksX6_init_2 18 rfl rfl)
theorem dX6_init_66 : decode cX6_init 66 = .ok (.sipush 900, 3) := dk_17 3 132 (dk_at dksX6_init_2 19 rfl rfl)
theorem dX6_init_69 : decode cX6_init 69 = .ok (.newarray .byte, 2) := dk_188_8 (dk_at dksX6_init_2 22 rfl rfl)
theorem dX6_init_71 : decode cX6_init 71 = .ok (.putfield 30, 3) := dk_181 0 30 (dk_at dksX6_init_3 0 rfl rfl)
theorem dX6_init_74 : decode cX6_init 74 = .ok (.aload_n 0, 1) := dk_42 (dk_at dksX6_init_3 3 rfl rfl)
theorem dX6_init_75 : decode cX6_init 75 = .ok (.sipush 900, 3) := dk_17 3 132 (dk_at dksX6_init_3 4 rfl rfl)
theorem dX6_init_78 : decode cX6_init 78 = .ok (.newarray .byte, 2) := dk_188_8 (dk_at dksX6_init_3 7 rfl rfl)
theorem dX6_init_80 : decode cX6_init 80 = .ok (.putfield 34, 3) := dk_181 0 34 (dk_at dksX6_init_3 9 rfl rfl)
theorem dX6_init_83 : decode cX6_init 83 = .ok (.aload_n 0, 1) := dk_42 (dk_at dksX6_init_3 12 rfl rfl)
theorem dX6_init_84 : decode cX6_init 84 = .ok (.iconst (-1), 1) := dk_2 (dk_at dksX6_init_3 13 rfl rfl)
theorem dX6_init_85 : decode cX6_init 85 = .ok (.putfield 37, 3) := dk_181 0 37 (dk_at dksX6_init_3 14 rfl rfl)
theorem dX6_init_88 : decode cX6_init 88 = .ok (.aload_n 0, 1) := dk_42 (dk_at dksX6_init_3 17 rfl rfl)
theorem dX6_init_89 : decode cX6_init 89 = .ok (.iconst (-1), 1) := dk_2 (dk_at dksX6_init_3 18 rfl rfl)
theorem dX6_init_90 : decode cX6_init 90 = .ok (.putfield 41, 3) := dk_181 0 41 (dk_at dksX6_init_3 19 rfl rfl)
theorem dX6_init_93 : decode cX6_init 93 = .ok (.aload_n 0, 1) := dk_42 (dk_at dksX6_init_3 22 rfl rfl)
theorem dX6_init_94 : decode cX6_init 94 = .ok (.iconst 3, 1) := dk_6 (dk_at dksX6_init_3 23 rfl rfl)
theorem dX6_init_95 : decode cX6_init 95 = .ok (.newarray .int, 2) := dk_188_10 (dk_at dksX6_init_4 0 rfl rfl)
theorem dX6_init_97 : decode cX6_init 97 = .ok (.putfield 44, 3) := dk_181 0 44 (dk_at dksX6_init_4 2 rfl rfl)
theorem dX6_init_100 : decode cX6_init 100 = .ok (.aload_n 0, 1) := dk_42 (dk_at dksX6_init_4 5 rfl rfl)
theorem dX6_init_101 : decode cX6_init 101 = .ok (.bipush 64, 2) := dk_16 64 (dk_at dksX6_init_4 6 rfl rfl)
theorem dX6_init_103 : decode cX6_init 103 = .ok (.newarray .int, 2) := dk_188_10 (dk_at dksX6_init_4 8 rfl rfl)
theorem dX6_init_105 : decode cX6_init 105 = .ok (.putfield 47, 3) := dk_181 0 47 (dk_at dksX6_init_4 10 rfl rfl)
theorem dX6_init_108 : decode cX6_init 108 = .ok (.aload_n 0, 1) := dk_42 (dk_at dksX6_init_4 13 rfl rfl)
theorem dX6_init_109 : decode cX6_init 109 = .ok (.bipush 6, 2) := dk_16 6 (dk_at dksX6_init_4 14 rfl rfl)
theorem dX6_init_111 : decode cX6_init 111 = .ok (.newarray .int, 2) := dk_188_10 (dk_at dksX6_init_4 16 rfl rfl)
theorem dX6_init_113 : decode cX6_init 113 = .ok (.putfield 50, 3) := dk_181 0 50 (dk_at dksX6_init_4 18 rfl rfl)
theorem dX6_init_116 : decode cX6_init 116 = .ok (.aload_n 0, 1) := dk_42 (dk_at dksX6_init_4 21 rfl rfl)
theorem dX6_init_117 : decode cX6_init 117 = .ok (.bipush 36, 2) := dk_16 36 (dk_at dksX6_init_4 22 rfl rfl)
theorem dX6_init_119 : decode cX6_init 119 = .ok (.newarray .int, 2) := dk_188_10 (dk_at dksX6_init_5 0 rfl rfl)
theorem dX6_init_121 : decode cX6_init 121 = .ok (.putfield 53, 3) := dk_181 0 53 (dk_at dksX6_init_5 2 rfl rfl)
theorem dX6_init_124 : decode cX6_init 124 = .ok (.aload_n 0, 1) := dk_42 (dk_at dksX6_init_5 5 rfl rfl)
theorem dX6_init_125 : decode cX6_init 125 = .ok (.bipush 80, 2) := dk_16 80 (dk_at dksX6_init_5 6 rfl rfl)
theorem dX6_init_127 : decode cX6_init 127 = .ok (.newarray .int, 2) := dk_188_10 (dk_at dksX6_init_5 8 rfl rfl)
theorem dX6_init_129 : decode cX6_init 129 = .ok (.putfield 56, 3) := dk_181 0 56 (dk_at dksX6_init_5 10 rfl rfl)
theorem dX6_init_132 : decode cX6_init 132 = .ok (.aload_n 0, 1) := dk_42 (dk_at dksX6_init_5 13 rfl rfl)
theorem dX6_init_133 : decode cX6_init 133 = .ok (.iconst 5, 1) := dk_8 (dk_at dksX6_init_5 14 rfl rfl)
theorem dX6_init_134 : decode cX6_init 134 = .ok (.newarray .int, 2) := dk_188_10 (dk_at dksX6_init_5 15 rfl rfl)
theorem dX6_init_136 : decode cX6_init 136 = .ok (.putfield 59, 3) := dk_181 0 59 (dk_at dksX6_init_5 17 rfl rfl)
theorem dX6_init_139 : decode cX6_init 139 = .ok (.aload_n 0, 1) := dk_42 (dk_at dksX6_init_5 20 rfl rfl)
theorem dX6_init_140 : decode cX6_init 140 = .ok (.iconst 5, 1) := dk_8 (dk_at dksX6_init_5 21 rfl rfl)
theorem dX6_init_141 : decode cX6_init 141 = .ok (.newarray .int, 2) := dk_188_10 (dk_at dksX6_init_5 22 rfl rfl)
theorem dX6_init_143 : decode cX6_init 143 = .ok (.putfield 62, 3) := dk_181 0 62 (dk_at dksX6_init_6 0 rfl rfl)
theorem dX6_init_146 : decode cX6_init 146 = .ok (.aload_n 0, 1) := dk_42 (dk_at dksX6_init_6 3 rfl rfl)
theorem dX6_init_147 : decode cX6_init 147 = .ok (.iconst 0, 1) := dk_3 (dk_at dksX6_init_6 4 rfl rfl)
theorem dX6_init_148 : decode cX6_init 148 = .ok (.invokevirtual 65, 3) := dk_182 0 65 (dk_at dksX6_init_6 5 rfl rfl)
theorem dX6_init_151 : decode cX6_init 151 = .ok (.return_, 1) := dk_177 (dk_at dksX6_init_6 8 rfl rfl)
abbrev cX6_plain : ByteArray := prog_16_method_2_code
def yX6_plain : MethodName := ⟨RX6, "plain", "(I)V"⟩
def dkwX6_plain_1 : List UInt8 := [42, 180, 0, 7, 27, 16, 9, 96, 2, 79, 177]
abbrev dktX6_plain_1 : List UInt8 := dkwX6_plain_1 ++ []
def dkwX6_plain_0 : List UInt8 := [3, 61, 28, 17, 1, 244, 162, 0, 18, 42, 180, 0, 7, 27, 28, 96, 3, 79, 132, 2, 1, 167, 255, 237]
abbrev dktX6_plain_0 : List UInt8 := dkwX6_plain_0 ++ dktX6_plain_1
theorem dksX6_plain_0 : cX6_plain.data.toList.drop 0 = dktX6_plain_0 := by decide +kernel
theorem dksX6_plain_1 : cX6_plain.data.toList.drop 24 = dktX6_plain_1 := dk_seg dksX6_plain_0 24 rfl rfl
theorem dX6_plain_0 : decode cX6_plain 0 = .ok (.iconst 0, 1) := dk_3 (dk_at dksX6_plain_0 0 rfl rfl)
theorem dX6_plain_1 : decode cX6_plain 1 = .ok (.istore_n 2, 1) := dk_61 (dk_at dksX6_plain_0 1 rfl rfl)
theorem dX6_plain_2 : decode cX6_plain 2 = .ok (.iload_n 2, 1) := dk_28 (dk_at dksX6_plain_0 2 rfl rfl)
theorem dX6_plain_3 : decode cX6_plain 3 = .ok (.sipush 500, 3) := dk_17 1 244 (dk_at dksX6_plain_0 3 rfl rfl)
theorem dX6_plain_6 : decode cX6_plain 6 = .ok (.if_icmp .ge 18, 3) := dk_162 0 18 (dk_at dksX6_plain_0 6 rfl rfl)
theorem dX6_plain_9 : decode cX6_plain 9 = .ok (.aload_n 0, 1) := dk_42 (dk_at dksX6_plain_0 9 rfl rfl)
theorem dX6_plain_10 : decode cX6_plain 10 = .ok (.getfield 7, 3) := dk_180 0 7 (dk_at dksX6_plain_0 10 rfl rfl)
theorem dX6_plain_13 : decode cX6_plain 13 = .ok (.iload_n 1, 1) := dk_27 (dk_at dksX6_plain_0 13 rfl rfl)
theorem dX6_plain_14 : decode cX6_plain 14 = .ok (.iload_n 2, 1) := dk_28 (dk_at dksX6_plain_0 14 rfl rfl)
theorem dX6_plain_15 : decode cX6_plain 15 = .ok (.iadd, 1) := dk_96 (dk_at dksX6_plain_0 15 rfl rfl)
theorem dX6_plain_16 : decode cX6_plain 16 = .ok (.iconst 0, 1) := dk_3 (dk_at dksX6_plain_0 16 rfl rfl)
theorem dX6_plain_17 : decode cX6_plain 17 = .ok (.iastore, 1) := dk_79 (dk_at dksX6_plain_0 17 rfl rfl)
theorem dX6_plain_18 : decode cX6_plain 18 = .ok (.iinc 2 1, 3) := dk_132 2 1 (dk_at dksX6_plain_0 18 rfl rfl)
theorem dX6_plain_21 : decode cX6_plain 21 = .ok (.goto (-19), 3) := dk_167 255 237 (dk_at dksX6_plain_0 21 rfl rfl)
theorem dX6_plain_24 : decode cX6_plain 24 = .ok (.aload_n 0, 1) := dk_42 (dk_at dksX6_plain_1 0 rfl rfl)
theorem dX6_plain_25 : decode cX6_plain 25 = .ok (.getfield 7, 3) := dk_180 0 7 (dk_at dksX6_plain_1 1 rfl rfl)
theorem dX6_plain_28 : decode cX6_plain 28 = .ok (.iload_n 1, 1) := dk_27 (dk_at dksX6_plain_1 4 rfl rfl)
theorem dX6_plain_29 : decode cX6_plain 29 = .ok (.bipush 9, 2) := dk_16 9 (dk_at dksX6_plain_1 5 rfl rfl)
theorem dX6_plain_31 : decode cX6_plain 31 = .ok (.iadd, 1) := dk_96 (dk_at dksX6_plain_1 7 rfl rfl)
theorem dX6_plain_32 : decode cX6_plain 32 = .ok (.iconst (-1), 1) := dk_2 (dk_at dksX6_plain_1 8 rfl rfl)
theorem dX6_plain_33 : decode cX6_plain 33 = .ok (.iastore, 1) := dk_79 (dk_at dksX6_plain_1 9 rfl rfl)
theorem dX6_plain_34 : decode cX6_plain 34 = .ok (.return_, 1) := dk_177 (dk_at dksX6_plain_1 10 rfl rfl)
abbrev cX6_status : ByteArray := prog_16_method_3_code
def yX6_status : MethodName := ⟨RX6, "status", "()I"⟩
theorem dX6_status_0 : decode cX6_status 0 = .ok (.aload_n 0, 1) := by decide +kernel
theorem dX6_status_1 : decode cX6_status 1 = .ok (.getfield 69, 3) := by decide +kernel
theorem dX6_status_4 : decode cX6_status 4 = .ok (.ireturn, 1) := by decide +kernel
abbrev cX6_top : ByteArray := prog_16_method_4_code
def yX6_top : MethodName := ⟨RX6, "top", "()J"⟩
theorem dX6_top_0 : decode cX6_top 0 = .ok (.aload_n 0, 1) := by decide +kernel
theorem dX6_top_1 : decode cX6_top 1 = .ok (.getfield 72, 3) := by decide +kernel
theorem dX6_top_4 : decode cX6_top 4 = .ok (.lreturn, 1) := by decide +kernel
abbrev cX6_bottom : ByteArray := prog_16_method_5_code
def yX6_bottom : MethodName := ⟨RX6, "bottom", "()J"⟩
theorem dX6_bottom_0 : decode cX6_bottom 0 = .ok (.aload_n 0, 1) := by decide +kernel
theorem dX6_bottom_1 : decode cX6_bottom 1 = .ok (.getfield 17, 3) := by decide +kernel
theorem dX6_bottom_4 : decode cX6_bottom 4 = .ok (.lreturn, 1) := by decide +kernel
abbrev cX6_tray : ByteArray := prog_16_method_13_code
def yX6_tray : MethodName := ⟨RX6, "tray", "(III)Z"⟩
def dkwX6_tray_3 : List UInt8 := [167, 255, 234, 42, 3, 182, 0, 82, 172]
abbrev dktX6_tray_3 : List UInt8 := dkwX6_tray_3 ++ []
def dkwX6_tray_2 : List UInt8 := [54, 4, 21, 4, 29, 162, 0, 22, 42, 180, 0, 27, 16, 60, 27, 104, 21, 4, 96, 9, 80, 132, 4, 1]
abbrev dktX6_tray_2 : List UInt8 := dkwX6_tray_2 ++ dktX6_tray_3
def dkwX6_tray_1 : List UInt8 := [164, 0, 9, 42, 4, 182, 0, 82, 172, 42, 180, 0, 21, 27, 28, 79, 42, 180, 0, 24, 27, 29, 79, 3]
abbrev dktX6_tray_1 : List UInt8 := dkwX6_tray_1 ++ dktX6_tray_2
def dkwX6_tray_0 : List UInt8 := [27, 184, 0, 86, 153, 0, 22, 28, 155, 0, 18, 28, 6, 163, 0, 13, 29, 155, 0, 9, 29, 16, 60]
abbrev dktX6_tray_0 : List UInt8 := dkwX6_tray_0 ++ dktX6_tray_1
theorem dksX6_tray_0 : cX6_tray.data.toList.drop 0 = dktX6_tray_0 := by decide +kernel
theorem dksX6_tray_1 : cX6_tray.data.toList.drop 23 = dktX6_tray_1 := dk_seg dksX6_tray_0 23 rfl rfl
theorem dksX6_tray_2 : cX6_tray.data.toList.drop 47 = dktX6_tray_2 := dk_seg dksX6_tray_1 24 rfl rfl
theorem dksX6_tray_3 : cX6_tray.data.toList.drop 71 = dktX6_tray_3 := dk_seg dksX6_tray_2 24 rfl rfl
theorem dX6_tray_0 : decode cX6_tray 0 = .ok (.iload_n 1, 1) := dk_27 (dk_at dksX6_tray_0 0 rfl rfl)
theorem dX6_tray_1 : decode cX6_tray 1 = .ok (.invokestatic 86, 3) := dk_184 0 86 (dk_at dksX6_tray_0 1 rfl rfl)
theorem dX6_tray_4 : decode cX6_tray 4 = .ok (.ifCond .eq 22, 3) := dk_153 0 22 (dk_at dksX6_tray_0 4 rfl rfl)
theorem dX6_tray_7 : decode cX6_tray 7 = .ok (.iload_n 2, 1) := dk_28 (dk_at dksX6_tray_0 7 rfl rfl)
theorem dX6_tray_8 : decode cX6_tray 8 = .ok (.ifCond .lt 18, 3) := dk_155 0 18 (dk_at dksX6_tray_0 8 rfl rfl)
theorem dX6_tray_11 : decode cX6_tray 11 = .ok (.iload_n 2, 1) := dk_28 (dk_at dksX6_tray_0 11 rfl rfl)
theorem dX6_tray_12 : decode cX6_tray 12 = .ok (.iconst 3, 1) := dk_6 (dk_at dksX6_tray_0 12 rfl rfl)
theorem dX6_tray_13 : decode cX6_tray 13 = .ok (.if_icmp .gt 13, 3) := dk_163 0 13 (dk_at dksX6_tray_0 13 rfl rfl)
theorem dX6_tray_16 : decode cX6_tray 16 = .ok (.iload_n 3, 1) := dk_29 (dk_at dksX6_tray_0 16 rfl rfl)
theorem dX6_tray_17 : decode cX6_tray 17 = .ok (.ifCond .lt 9, 3) := dk_155 0 9 (dk_at dksX6_tray_0 17 rfl rfl)
theorem dX6_tray_20 : decode cX6_tray 20 = .ok (.iload_n 3, 1) := dk_29 (dk_at dksX6_tray_0 20 rfl rfl)
theorem dX6_tray_21 : decode cX6_tray 21 = .ok (.bipush 60, 2) := dk_16 60 (dk_at dksX6_tray_0 21 rfl rfl)
theorem dX6_tray_23 : decode cX6_tray 23 = .ok (.if_icmp .le 9, 3) := dk_164 0 9 (dk_at dksX6_tray_1 0 rfl rfl)
theorem dX6_tray_26 : decode cX6_tray 26 = .ok (.aload_n 0, 1) := dk_42 (dk_at dksX6_tray_1 3 rfl rfl)
theorem dX6_tray_27 : decode cX6_tray 27 = .ok (.iconst 1, 1) := dk_4 (dk_at dksX6_tray_1 4 rfl rfl)
theorem dX6_tray_28 : decode cX6_tray 28 = .ok (.invokevirtual 82, 3) := dk_182 0 82 (dk_at dksX6_tray_1 5 rfl rfl)
theorem dX6_tray_31 : decode cX6_tray 31 = .ok (.ireturn, 1) := dk_172 (dk_at dksX6_tray_1 8 rfl rfl)
theorem dX6_tray_32 : decode cX6_tray 32 = .ok (.aload_n 0, 1) := dk_42 (dk_at dksX6_tray_1 9 rfl rfl)
theorem dX6_tray_33 : decode cX6_tray 33 = .ok (.getfield 21, 3) := dk_180 0 21 (dk_at dksX6_tray_1 10 rfl rfl)
theorem dX6_tray_36 : decode cX6_tray 36 = .ok (.iload_n 1, 1) := dk_27 (dk_at dksX6_tray_1 13 rfl rfl)
theorem dX6_tray_37 : decode cX6_tray 37 = .ok (.iload_n 2, 1) := dk_28 (dk_at dksX6_tray_1 14 rfl rfl)
theorem dX6_tray_38 : decode cX6_tray 38 = .ok (.iastore, 1) := dk_79 (dk_at dksX6_tray_1 15 rfl rfl)
theorem dX6_tray_39 : decode cX6_tray 39 = .ok (.aload_n 0, 1) := dk_42 (dk_at dksX6_tray_1 16 rfl rfl)
theorem dX6_tray_40 : decode cX6_tray 40 = .ok (.getfield 24, 3) := dk_180 0 24 (dk_at dksX6_tray_1 17 rfl rfl)
theorem dX6_tray_43 : decode cX6_tray 43 = .ok (.iload_n 1, 1) := dk_27 (dk_at dksX6_tray_1 20 rfl rfl)
theorem dX6_tray_44 : decode cX6_tray 44 = .ok (.iload_n 3, 1) := dk_29 (dk_at dksX6_tray_1 21 rfl rfl)
theorem dX6_tray_45 : decode cX6_tray 45 = .ok (.iastore, 1) := dk_79 (dk_at dksX6_tray_1 22 rfl rfl)
theorem dX6_tray_46 : decode cX6_tray 46 = .ok (.iconst 0, 1) := dk_3 (dk_at dksX6_tray_1 23 rfl rfl)
theorem dX6_tray_47 : decode cX6_tray 47 = .ok (.istore 4, 2) := dk_54 4 (dk_at dksX6_tray_2 0 rfl rfl)
theorem dX6_tray_49 : decode cX6_tray 49 = .ok (.iload 4, 2) := dk_21 4 (dk_at dksX6_tray_2 2 rfl rfl)
theorem dX6_tray_51 : decode cX6_tray 51 = .ok (.iload_n 3, 1) := dk_29 (dk_at dksX6_tray_2 4 rfl rfl)
theorem dX6_tray_52 : decode cX6_tray 52 = .ok (.if_icmp .ge 22, 3) := dk_162 0 22 (dk_at dksX6_tray_2 5 rfl rfl)
theorem dX6_tray_55 : decode cX6_tray 55 = .ok (.aload_n 0, 1) := dk_42 (dk_at dksX6_tray_2 8 rfl rfl)
theorem dX6_tray_56 : decode cX6_tray 56 = .ok (.getfield 27, 3) := dk_180 0 27 (dk_at dksX6_tray_2 9 rfl rfl)
theorem dX6_tray_59 : decode cX6_tray 59 = .ok (.bipush 60, 2) := dk_16 60 (dk_at dksX6_tray_2 12 rfl rfl)
theorem dX6_tray_61 : decode cX6_tray 61 = .ok (.iload_n 1, 1) := dk_27 (dk_at dksX6_tray_2 14 rfl rfl)
theorem dX6_tray_62 : decode cX6_tray 62 = .ok (.imul, 1) := dk_104 (dk_at dksX6_tray_2 15 rfl rfl)
theorem dX6_tray_63 : decode cX6_tray 63 = .ok (.iload 4, 2) := dk_21 4 (dk_at dksX6_tray_2 16 rfl rfl)
theorem dX6_tray_65 : decode cX6_tray 65 = .ok (.iadd, 1) := dk_96 (dk_at dksX6_tray_2 18 rfl rfl)
theorem dX6_tray_66 : decode cX6_tray 66 = .ok (.lconst 0, 1) := dk_9 (dk_at dksX6_tray_2 19 rfl rfl)
theorem dX6_tray_67 : decode cX6_tray 67 = .ok (.lastore, 1) := dk_80 (dk_at dksX6_tray_2 20 rfl rfl)
theorem dX6_tray_68 : decode cX6_tray 68 = .ok (.iinc 4 1, 3) := dk_132 4 1 (dk_at dksX6_tray_2 21 rfl rfl)
theorem dX6_tray_71 : decode cX6_tray 71 = .ok (.goto (-22), 3) := dk_167 255 234 (dk_at dksX6_tray_3 0 rfl rfl)
theorem dX6_tray_74 : decode cX6_tray 74 = .ok (.aload_n 0, 1) := dk_42 (dk_at dksX6_tray_3 3 rfl rfl)
theorem dX6_tray_75 : decode cX6_tray 75 = .ok (.iconst 0, 1) := dk_3 (dk_at dksX6_tray_3 4 rfl rfl)
theorem dX6_tray_76 : decode cX6_tray 76 = .ok (.invokevirtual 82, 3) := dk_182 0 82 (dk_at dksX6_tray_3 5 rfl rfl)
theorem dX6_tray_79 : decode cX6_tray 79 = .ok (.ireturn, 1) := dk_172 (dk_at dksX6_tray_3 8 rfl rfl)
abbrev cX6_isTray : ByteArray := prog_16_method_11_code
def yX6_isTray : MethodName := ⟨RX6, "isTray", "(I)Z"⟩
def dkwX6_isTray_0 : List UInt8 := [26, 155, 0, 12, 26, 7, 162, 0, 7, 4, 167, 0, 4, 3, 172]
abbrev dktX6_isTray_0 : List UInt8 := dkwX6_isTray_0 ++ []
theorem dksX6_isTray_0 : cX6_isTray.data.toList.drop 0 = dktX6_isTray_0 := by decide +kernel
theorem dX6_isTray_0 : decode cX6_isTray 0 = .ok (.iload_n 0, 1) := dk_26 (dk_at dksX6_isTray_0 0 rfl rfl)
theorem dX6_isTray_1 : decode cX6_isTray 1 = .ok (.ifCond .lt 12, 3) := dk_155 0 12 (dk_at dksX6_isTray_0 1 rfl rfl)
theorem dX6_isTray_4 : decode cX6_isTray 4 = .ok (.iload_n 0, 1) := dk_26 (dk_at dksX6_isTray_0 4 rfl rfl)
theorem dX6_isTray_5 : decode cX6_isTray 5 = .ok (.iconst 4, 1) := dk_7 (dk_at dksX6_isTray_0 5 rfl rfl)
theorem dX6_isTray_6 : decode cX6_isTray 6 = .ok (.if_icmp .ge 7, 3) := dk_162 0 7 (dk_at dksX6_isTray_0 6 rfl rfl)
theorem dX6_isTray_9 : decode cX6_isTray 9 = .ok (.iconst 1, 1) := dk_4 (dk_at dksX6_isTray_0 9 rfl rfl)
theorem dX6_isTray_10 : decode cX6_isTray 10 = .ok (.goto 4, 3) := dk_167 0 4 (dk_at dksX6_isTray_0 10 rfl rfl)
theorem dX6_isTray_13 : decode cX6_isTray 13 = .ok (.iconst 0, 1) := dk_3 (dk_at dksX6_isTray_0 13 rfl rfl)
theorem dX6_isTray_14 : decode cX6_isTray 14 = .ok (.ireturn, 1) := dk_172 (dk_at dksX6_isTray_0 14 rfl rfl)
abbrev cX6_is : ByteArray := prog_16_method_6_code
def yX6_is : MethodName := ⟨RX6, "is", "(I)Z"⟩
def dkwX6_is_0 : List UInt8 := [42, 27, 181, 0, 69, 27, 154, 0, 7, 4, 167, 0, 4, 3, 172]
abbrev dktX6_is_0 : List UInt8 := dkwX6_is_0 ++ []
theorem dksX6_is_0 : cX6_is.data.toList.drop 0 = dktX6_is_0 := by decide +kernel
theorem dX6_is_0 : decode cX6_is 0 = .ok (.aload_n 0, 1) := dk_42 (dk_at dksX6_is_0 0 rfl rfl)
theorem dX6_is_1 : decode cX6_is 1 = .ok (.iload_n 1, 1) := dk_27 (dk_at dksX6_is_0 1 rfl rfl)
theorem dX6_is_2 : decode cX6_is 2 = .ok (.putfield 69, 3) := dk_181 0 69 (dk_at dksX6_is_0 2 rfl rfl)
theorem dX6_is_5 : decode cX6_is 5 = .ok (.iload_n 1, 1) := dk_27 (dk_at dksX6_is_0 5 rfl rfl)
theorem dX6_is_6 : decode cX6_is 6 = .ok (.ifCond .ne 7, 3) := dk_154 0 7 (dk_at dksX6_is_0 6 rfl rfl)
theorem dX6_is_9 : decode cX6_is 9 = .ok (.iconst 1, 1) := dk_4 (dk_at dksX6_is_0 9 rfl rfl)
theorem dX6_is_10 : decode cX6_is 10 = .ok (.goto 4, 3) := dk_167 0 4 (dk_at dksX6_is_0 10 rfl rfl)
theorem dX6_is_13 : decode cX6_is 13 = .ok (.iconst 0, 1) := dk_3 (dk_at dksX6_is_0 13 rfl rfl)
theorem dX6_is_14 : decode cX6_is 14 = .ok (.ireturn, 1) := dk_172 (dk_at dksX6_is_0 14 rfl rfl)
abbrev cX6_write : ByteArray := prog_16_method_15_code
def yX6_write : MethodName := ⟨RX6, "write", "(IIJ)Z"⟩
def dkwX6_write_1 : List UInt8 := [42, 180, 0, 21, 27, 46, 184, 0, 93, 80, 42, 21, 5, 182, 0, 82, 172]
abbrev dktX6_write_1 : List UInt8 := dkwX6_write_1 ++ []
def dkwX6_write_0 : List UInt8 := [42, 27, 28, 182, 0, 89, 54, 5, 21, 5, 154, 0, 24, 42, 180, 0, 27, 16, 60, 27, 104, 28, 96, 33]
abbrev dktX6_write_0 : List UInt8 := dkwX6_write_0 ++ dktX6_write_1
theorem dksX6_write_0 : cX6_write.data.toList.drop 0 = dktX6_write_0 := by decide +kernel
theorem dksX6_write_1 : cX6_write.data.toList.drop 24 = dktX6_write_1 := dk_seg dksX6_write_0 24 rfl rfl
theorem dX6_write_0 : decode cX6_write 0 = .ok (.aload_n 0, 1) := dk_42 (dk_at dksX6_write_0 0 rfl rfl)
theorem dX6_write_1 : decode cX6_write 1 = .ok (.iload_n 1, 1) := dk_27 (dk_at dksX6_write_0 1 rfl rfl)
theorem dX6_write_2 : decode cX6_write 2 = .ok (.iload_n 2, 1) := dk_28 (dk_at dksX6_write_0 2 rfl rfl)
theorem dX6_write_3 : decode cX6_write 3 = .ok (.invokevirtual 89, 3) := dk_182 0 89 (dk_at dksX6_write_0 3 rfl rfl)
theorem dX6_write_6 : decode cX6_write 6 = .ok (.istore 5, 2) := dk_54 5 (dk_at dksX6_write_0 6 rfl rfl)
theorem dX6_write_8 : decode cX6_write 8 = .ok (.iload 5, 2) := dk_21 5 (dk_at dksX6_write_0 8 rfl rfl)
theorem dX6_write_10 : decode cX6_write 10 = .ok (.ifCond .ne 24, 3) := dk_154 0 24 (dk_at dksX6_write_0 10 rfl rfl)
theorem dX6_write_13 : decode cX6_write 13 = .ok (.aload_n 0, 1) := dk_42 (dk_at dksX6_write_0 13 rfl rfl)
theorem dX6_write_14 : decode cX6_write 14 = .ok (.getfield 27, 3) := dk_180 0 27 (dk_at dksX6_write_0 14 rfl rfl)
theorem dX6_write_17 : decode cX6_write 17 = .ok (.bipush 60, 2) := dk_16 60 (dk_at dksX6_write_0 17 rfl rfl)
theorem dX6_write_19 : decode cX6_write 19 = .ok (.iload_n 1, 1) := dk_27 (dk_at dksX6_write_0 19 rfl rfl)
theorem dX6_write_20 : decode cX6_write 20 = .ok (.imul, 1) := dk_104 (dk_at dksX6_write_0 20 rfl rfl)
theorem dX6_write_21 : decode cX6_write 21 = .ok (.iload_n 2, 1) := dk_28 (dk_at dksX6_write_0 21 rfl rfl)
theorem dX6_write_22 : decode cX6_write 22 = .ok (.iadd, 1) := dk_96 (dk_at dksX6_write_0 22 rfl rfl)
theorem dX6_write_23 : decode cX6_write 23 = .ok (.lload_n 3, 1) := dk_33 (dk_at dksX6_write_0 23 rfl rfl)
theorem dX6_write_24 : decode cX6_write 24 = .ok (.aload_n 0, 1) := dk_42 (dk_at dksX6_write_1 0 rfl rfl)
theorem dX6_write_25 : decode cX6_write 25 = .ok (.getfield 21, 3) := dk_180 0 21 (dk_at dksX6_write_1 1 rfl rfl)
theorem dX6_write_28 : decode cX6_write 28 = .ok (.iload_n 1, 1) := dk_27 (dk_at dksX6_write_1 4 rfl rfl)
theorem dX6_write_29 : decode cX6_write 29 = .ok (.iaload, 1) := dk_46 (dk_at dksX6_write_1 5 rfl rfl)
theorem dX6_write_30 : decode cX6_write 30 = .ok (.invokestatic 93, 3) := dk_184 0 93 (dk_at dksX6_write_1 6 rfl rfl)
theorem dX6_write_33 : decode cX6_write 33 = .ok (.lastore, 1) := dk_80 (dk_at dksX6_write_1 9 rfl rfl)
theorem dX6_write_34 : decode cX6_write 34 = .ok (.aload_n 0, 1) := dk_42 (dk_at dksX6_write_1 10 rfl rfl)
theorem dX6_write_35 : decode cX6_write 35 = .ok (.iload 5, 2) := dk_21 5 (dk_at dksX6_write_1 11 rfl rfl)
theorem dX6_write_37 : decode cX6_write 37 = .ok (.invokevirtual 82, 3) := dk_182 0 82 (dk_at dksX6_write_1 13 rfl rfl)
theorem dX6_write_40 : decode cX6_write 40 = .ok (.ireturn, 1) := dk_172 (dk_at dksX6_write_1 16 rfl rfl)
abbrev cX6_wrongPlace : ByteArray := prog_16_method_14_code
def yX6_wrongPlace : MethodName := ⟨RX6, "wrongPlace", "(II)I"⟩
def dkwX6_wrongPlace_1 : List UInt8 := [167, 0, 22, 28, 155, 0, 13, 28, 42, 180, 0, 24, 27, 46, 161, 0, 7, 6, 167, 0, 4, 3, 172]
abbrev dktX6_wrongPlace_1 : List UInt8 := dkwX6_wrongPlace_1 ++ []
def dkwX6_wrongPlace_0 : List UInt8 := [27, 184, 0, 86, 154, 0, 7, 4, 167, 0, 36, 42, 180, 0, 24, 27, 46, 2, 160, 0, 7, 5]
abbrev dktX6_wrongPlace_0 : List UInt8 := dkwX6_wrongPlace_0 ++ dktX6_wrongPlace_1
theorem dksX6_wrongPlace_0 : cX6_wrongPlace.data.toList.drop 0 = dktX6_wrongPlace_0 := by decide +kernel
theorem dksX6_wrongPlace_1 : cX6_wrongPlace.data.toList.drop 22 = dktX6_wrongPlace_1 := dk_seg dksX6_wrongPlace_0 22 rfl rfl
theorem dX6_wrongPlace_0 : decode cX6_wrongPlace 0 = .ok (.iload_n 1, 1) := dk_27 (dk_at dksX6_wrongPlace_0 0 rfl rfl)
theorem dX6_wrongPlace_1 : decode cX6_wrongPlace 1 = .ok (.invokestatic 86, 3) := dk_184 0 86 (dk_at dksX6_wrongPlace_0 1 rfl rfl)
theorem dX6_wrongPlace_4 : decode cX6_wrongPlace 4 = .ok (.ifCond .ne 7, 3) := dk_154 0 7 (dk_at dksX6_wrongPlace_0 4 rfl rfl)
theorem dX6_wrongPlace_7 : decode cX6_wrongPlace 7 = .ok (.iconst 1, 1) := dk_4 (dk_at dksX6_wrongPlace_0 7 rfl rfl)
theorem dX6_wrongPlace_8 : decode cX6_wrongPlace 8 = .ok (.goto 36, 3) := dk_167 0 36 (dk_at dksX6_wrongPlace_0 8 rfl rfl)
theorem dX6_wrongPlace_11 : decode cX6_wrongPlace 11 = .ok (.aload_n 0, 1) := dk_42 (dk_at dksX6_wrongPlace_0 11 rfl rfl)
theorem dX6_wrongPlace_12 : decode cX6_wrongPlace 12 = .ok (.getfield 24, 3) := dk_180 0 24 (dk_at dksX6_wrongPlace_0 12 rfl rfl)
theorem dX6_wrongPlace_15 : decode cX6_wrongPlace 15 = .ok (.iload_n 1, 1) := dk_27 (dk_at dksX6_wrongPlace_0 15 rfl rfl)
theorem dX6_wrongPlace_16 : decode cX6_wrongPlace 16 = .ok (.iaload, 1) := dk_46 (dk_at dksX6_wrongPlace_0 16 rfl rfl)
theorem dX6_wrongPlace_17 : decode cX6_wrongPlace 17 = .ok (.iconst (-1), 1) := dk_2 (dk_at dksX6_wrongPlace_0 17 rfl rfl)
theorem dX6_wrongPlace_18 : decode cX6_wrongPlace 18 = .ok (.if_icmp .ne 7, 3) := dk_160 0 7 (dk_at dksX6_wrongPlace_0 18 rfl rfl)
theorem dX6_wrongPlace_21 : decode cX6_wrongPlace 21 = .ok (.iconst 2, 1) := dk_5 (dk_at dksX6_wrongPlace_0 21 rfl rfl)
theorem dX6_wrongPlace_22 : decode cX6_wrongPlace 22 = .ok (.goto 22, 3) := dk_167 0 22 (dk_at dksX6_wrongPlace_1 0 rfl rfl)
theorem dX6_wrongPlace_25 : decode cX6_wrongPlace 25 = .ok (.iload_n 2, 1) := dk_28 (dk_at dksX6_wrongPlace_1 3 rfl rfl)
theorem dX6_wrongPlace_26 : decode cX6_wrongPlace 26 = .ok (.ifCond .lt 13, 3) := dk_155 0 13 (dk_at dksX6_wrongPlace_1 4 rfl rfl)
theorem dX6_wrongPlace_29 : decode cX6_wrongPlace 29 = .ok (.iload_n 2, 1) := dk_28 (dk_at dksX6_wrongPlace_1 7 rfl rfl)
theorem dX6_wrongPlace_30 : decode cX6_wrongPlace 30 = .ok (.aload_n 0, 1) := dk_42 (dk_at dksX6_wrongPlace_1 8 rfl rfl)
theorem dX6_wrongPlace_31 : decode cX6_wrongPlace 31 = .ok (.getfield 24, 3) := dk_180 0 24 (dk_at dksX6_wrongPlace_1 9 rfl rfl)
theorem dX6_wrongPlace_34 : decode cX6_wrongPlace 34 = .ok (.iload_n 1, 1) := dk_27 (dk_at dksX6_wrongPlace_1 12 rfl rfl)
theorem dX6_wrongPlace_35 : decode cX6_wrongPlace 35 = .ok (.iaload, 1) := dk_46 (dk_at dksX6_wrongPlace_1 13 rfl rfl)
theorem dX6_wrongPlace_36 : decode cX6_wrongPlace 36 = .ok (.if_icmp .lt 7, 3) := dk_161 0 7 (dk_at dksX6_wrongPlace_1 14 rfl rfl)
theorem dX6_wrongPlace_39 : decode cX6_wrongPlace 39 = .ok (.iconst 3, 1) := dk_6 (dk_at dksX6_wrongPlace_1 17 rfl rfl)
theorem dX6_wrongPlace_40 : decode cX6_wrongPlace 40 = .ok (.goto 4, 3) := dk_167 0 4 (dk_at dksX6_wrongPlace_1 18 rfl rfl)
theorem dX6_wrongPlace_43 : decode cX6_wrongPlace 43 = .ok (.iconst 0, 1) := dk_3 (dk_at dksX6_wrongPlace_1 21 rfl rfl)
theorem dX6_wrongPlace_44 : decode cX6_wrongPlace 44 = .ok (.ireturn, 1) := dk_172 (dk_at dksX6_wrongPlace_1 22 rfl rfl)
abbrev cX6_cut : ByteArray := prog_16_method_12_code
def yX6_cut : MethodName := ⟨RX6, "cut", "(JI)J"⟩
def dkwX6_cut_1 : List UInt8 := [5, 160, 0, 9, 30, 136, 133, 167, 0, 4, 30, 173]
abbrev dktX6_cut_1 : List UInt8 := dkwX6_cut_1 ++ []
def dkwX6_cut_0 : List UInt8 := [28, 154, 0, 10, 30, 136, 145, 133, 167, 0, 27, 28, 4, 160, 0, 10, 30, 136, 147, 133, 167, 0, 15, 28]
abbrev dktX6_cut_0 : List UInt8 := dkwX6_cut_0 ++ dktX6_cut_1
theorem dksX6_cut_0 : cX6_cut.data.toList.drop 0 = dktX6_cut_0 := by decide +kernel
theorem dksX6_cut_1 : cX6_cut.data.toList.drop 24 = dktX6_cut_1 := dk_seg dksX6_cut_0 24 rfl rfl
theorem dX6_cut_0 : decode cX6_cut 0 = .ok (.iload_n 2, 1) := dk_28 (dk_at dksX6_cut_0 0 rfl rfl)
theorem dX6_cut_1 : decode cX6_cut 1 = .ok (.ifCond .ne 10, 3) := dk_154 0 10 (dk_at dksX6_cut_0 1 rfl rfl)
theorem dX6_cut_4 : decode cX6_cut 4 = .ok (.lload_n 0, 1) := dk_30 (dk_at dksX6_cut_0 4 rfl rfl)
theorem dX6_cut_5 : decode cX6_cut 5 = .ok (.l2i, 1) := dk_136 (dk_at dksX6_cut_0 5 rfl rfl)
theorem dX6_cut_6 : decode cX6_cut 6 = .ok (.i2b, 1) := dk_145 (dk_at dksX6_cut_0 6 rfl rfl)
theorem dX6_cut_7 : decode cX6_cut 7 = .ok (.i2l, 1) := dk_133 (dk_at dksX6_cut_0 7 rfl rfl)
theorem dX6_cut_8 : decode cX6_cut 8 = .ok (.goto 27, 3) := dk_167 0 27 (dk_at dksX6_cut_0 8 rfl rfl)
theorem dX6_cut_11 : decode cX6_cut 11 = .ok (.iload_n 2, 1) := dk_28 (dk_at dksX6_cut_0 11 rfl rfl)
theorem dX6_cut_12 : decode cX6_cut 12 = .ok (.iconst 1, 1) := dk_4 (dk_at dksX6_cut_0 12 rfl rfl)
theorem dX6_cut_13 : decode cX6_cut 13 = .ok (.if_icmp .ne 10, 3) := dk_160 0 10 (dk_at dksX6_cut_0 13 rfl rfl)
theorem dX6_cut_16 : decode cX6_cut 16 = .ok (.lload_n 0, 1) := dk_30 (dk_at dksX6_cut_0 16 rfl rfl)
theorem dX6_cut_17 : decode cX6_cut 17 = .ok (.l2i, 1) := dk_136 (dk_at dksX6_cut_0 17 rfl rfl)
theorem dX6_cut_18 : decode cX6_cut 18 = .ok (.i2s, 1) := dk_147 (dk_at dksX6_cut_0 18 rfl rfl)
theorem dX6_cut_19 : decode cX6_cut 19 = .ok (.i2l, 1) := dk_133 (dk_at dksX6_cut_0 19 rfl rfl)
theorem dX6_cut_20 : decode cX6_cut 20 = .ok (.goto 15, 3) := dk_167 0 15 (dk_at dksX6_cut_0 20 rfl rfl)
theorem dX6_cut_23 : decode cX6_cut 23 = .ok (.iload_n 2, 1) := dk_28 (dk_at dksX6_cut_0 23 rfl rfl)
theorem dX6_cut_24 : decode cX6_cut 24 = .ok (.iconst 2, 1) := dk_5 (dk_at dksX6_cut_1 0 rfl rfl)
theorem dX6_cut_25 : decode cX6_cut 25 = .ok (.if_icmp .ne 9, 3) := dk_160 0 9 (dk_at dksX6_cut_1 1 rfl rfl)
theorem dX6_cut_28 : decode cX6_cut 28 = .ok (.lload_n 0, 1) := dk_30 (dk_at dksX6_cut_1 4 rfl rfl)
theorem dX6_cut_29 : decode cX6_cut 29 = .ok (.l2i, 1) := dk_136 (dk_at dksX6_cut_1 5 rfl rfl)
theorem dX6_cut_30 : decode cX6_cut 30 = .ok (.i2l, 1) := dk_133 (dk_at dksX6_cut_1 6 rfl rfl)
theorem dX6_cut_31 : decode cX6_cut 31 = .ok (.goto 4, 3) := dk_167 0 4 (dk_at dksX6_cut_1 7 rfl rfl)
theorem dX6_cut_34 : decode cX6_cut 34 = .ok (.lload_n 0, 1) := dk_30 (dk_at dksX6_cut_1 10 rfl rfl)
theorem dX6_cut_35 : decode cX6_cut 35 = .ok (.lreturn, 1) := dk_173 (dk_at dksX6_cut_1 11 rfl rfl)
abbrev cX6_read : ByteArray := prog_16_method_16_code
def yX6_read : MethodName := ⟨RX6, "read", "(II)J"⟩
def dkwX6_read_1 : List UInt8 := [180, 0, 27, 16, 60, 27, 104, 28, 96, 47, 173]
abbrev dktX6_read_1 : List UInt8 := dkwX6_read_1 ++ []
def dkwX6_read_0 : List UInt8 := [42, 42, 27, 28, 182, 0, 89, 181, 0, 69, 42, 180, 0, 69, 158, 0, 9, 20, 0, 97, 167, 0, 14, 42]
abbrev dktX6_read_0 : List UInt8 := dkwX6_read_0 ++ dktX6_read_1
theorem dksX6_read_0 : cX6_read.data.toList.drop 0 = dktX6_read_0 := by decide +kernel
theorem dksX6_read_1 : cX6_read.data.toList.drop 24 = dktX6_read_1 := dk_seg dksX6_read_0 24 rfl rfl
theorem dX6_read_0 : decode cX6_read 0 = .ok (.aload_n 0, 1) := dk_42 (dk_at dksX6_read_0 0 rfl rfl)
theorem dX6_read_1 : decode cX6_read 1 = .ok (.aload_n 0, 1) := dk_42 (dk_at dksX6_read_0 1 rfl rfl)
theorem dX6_read_2 : decode cX6_read 2 = .ok (.iload_n 1, 1) := dk_27 (dk_at dksX6_read_0 2 rfl rfl)
theorem dX6_read_3 : decode cX6_read 3 = .ok (.iload_n 2, 1) := dk_28 (dk_at dksX6_read_0 3 rfl rfl)
theorem dX6_read_4 : decode cX6_read 4 = .ok (.invokevirtual 89, 3) := dk_182 0 89 (dk_at dksX6_read_0 4 rfl rfl)
theorem dX6_read_7 : decode cX6_read 7 = .ok (.putfield 69, 3) := dk_181 0 69 (dk_at dksX6_read_0 7 rfl rfl)
theorem dX6_read_10 : decode cX6_read 10 = .ok (.aload_n 0, 1) := dk_42 (dk_at dksX6_read_0 10 rfl rfl)
theorem dX6_read_11 : decode cX6_read 11 = .ok (.getfield 69, 3) := dk_180 0 69 (dk_at dksX6_read_0 11 rfl rfl)
theorem dX6_read_14 : decode cX6_read 14 = .ok (.ifCond .le 9, 3) := dk_158 0 9 (dk_at dksX6_read_0 14 rfl rfl)
theorem dX6_read_17 : decode cX6_read 17 = .ok (.ldc2_w 97, 3) := dk_20 0 97 (dk_at dksX6_read_0 17 rfl rfl)
theorem dX6_read_20 : decode cX6_read 20 = .ok (.goto 14, 3) := dk_167 0 14 (dk_at dksX6_read_0 20 rfl rfl)
theorem dX6_read_23 : decode cX6_read 23 = .ok (.aload_n 0, 1) := dk_42 (dk_at dksX6_read_0 23 rfl rfl)
theorem dX6_read_24 : decode cX6_read 24 = .ok (.getfield 27, 3) := dk_180 0 27 (dk_at dksX6_read_1 0 rfl rfl)
theorem dX6_read_27 : decode cX6_read 27 = .ok (.bipush 60, 2) := dk_16 60 (dk_at dksX6_read_1 3 rfl rfl)
theorem dX6_read_29 : decode cX6_read 29 = .ok (.iload_n 1, 1) := dk_27 (dk_at dksX6_read_1 5 rfl rfl)
theorem dX6_read_30 : decode cX6_read 30 = .ok (.imul, 1) := dk_104 (dk_at dksX6_read_1 6 rfl rfl)
theorem dX6_read_31 : decode cX6_read 31 = .ok (.iload_n 2, 1) := dk_28 (dk_at dksX6_read_1 7 rfl rfl)
theorem dX6_read_32 : decode cX6_read 32 = .ok (.iadd, 1) := dk_96 (dk_at dksX6_read_1 8 rfl rfl)
theorem dX6_read_33 : decode cX6_read 33 = .ok (.laload, 1) := dk_47 (dk_at dksX6_read_1 9 rfl rfl)
theorem dX6_read_34 : decode cX6_read 34 = .ok (.lreturn, 1) := dk_173 (dk_at dksX6_read_1 10 rfl rfl)
abbrev cX6_pour : ByteArray := prog_16_method_17_code
def yX6_pour : MethodName := ⟨RX6, "pour", "(IIIII)Z"⟩
def dkwX6_pour_8 : List UInt8 := [182, 0, 82, 172]
abbrev dktX6_pour_8 : List UInt8 := dkwX6_pour_8 ++ []
def dkwX6_pour_7 : List UInt8 := [180, 0, 27, 16, 60, 27, 104, 28, 96, 21, 7, 96, 47, 80, 132, 6, 1, 167, 255, 197, 42, 3]
abbrev dktX6_pour_7 : List UInt8 := dkwX6_pour_7 ++ dktX6_pour_8
def dkwX6_pour_6 : List UInt8 := [167, 0, 5, 21, 6, 54, 7, 42, 180, 0, 27, 16, 60, 29, 104, 21, 4, 96, 21, 7, 96, 42]
abbrev dktX6_pour_6 : List UInt8 := dkwX6_pour_6 ++ dktX6_pour_7
def dkwX6_pour_5 : List UInt8 := [3, 54, 6, 21, 6, 21, 5, 162, 0, 58, 28, 21, 4, 162, 0, 13, 21, 5, 4, 100, 21, 6, 100]
abbrev dktX6_pour_5 : List UInt8 := dkwX6_pour_5 ++ dktX6_pour_6
def dkwX6_pour_4 : List UInt8 := [100, 163, 0, 17, 21, 5, 42, 180, 0, 24, 29, 46, 21, 4, 100, 164, 0, 9, 42, 6, 182, 0, 82, 172]
abbrev dktX6_pour_4 : List UInt8 := dkwX6_pour_4 ++ dktX6_pour_5
def dkwX6_pour_3 : List UInt8 := [180, 0, 21, 29, 46, 159, 0, 10, 42, 16, 8, 182, 0, 82, 172, 21, 5, 42, 180, 0, 24, 27, 46, 28]
abbrev dktX6_pour_3 : List UInt8 := dkwX6_pour_3 ++ dktX6_pour_4
def dkwX6_pour_2 : List UInt8 := [180, 0, 24, 29, 46, 2, 160, 0, 9, 42, 5, 182, 0, 82, 172, 42, 180, 0, 21, 27, 46, 42]
abbrev dktX6_pour_2 : List UInt8 := dkwX6_pour_2 ++ dktX6_pour_3
def dkwX6_pour_1 : List UInt8 := [21, 5, 156, 0, 9, 42, 4, 182, 0, 82, 172, 42, 180, 0, 24, 27, 46, 2, 159, 0, 13, 42]
abbrev dktX6_pour_1 : List UInt8 := dkwX6_pour_1 ++ dktX6_pour_2
def dkwX6_pour_0 : List UInt8 := [27, 184, 0, 86, 153, 0, 24, 29, 184, 0, 86, 153, 0, 17, 28, 155, 0, 13, 21, 4, 155, 0, 8]
abbrev dktX6_pour_0 : List UInt8 := dkwX6_pour_0 ++ dktX6_pour_1
theorem dksX6_pour_0 : cX6_pour.data.toList.drop 0 = dktX6_pour_0 := by decide +kernel
theorem dksX6_pour_1 : cX6_pour.data.toList.drop 23 = dktX6_pour_1 := dk_seg dksX6_pour_0 23 rfl rfl
theorem dksX6_pour_2 : cX6_pour.data.toList.drop 45 = dktX6_pour_2 := dk_seg dksX6_pour_1 22 rfl rfl
theorem dksX6_pour_3 : cX6_pour.data.toList.drop 67 = dktX6_pour_3 := dk_seg dksX6_pour_2 22 rfl rfl
theorem dksX6_pour_4 : cX6_pour.data.toList.drop 91 = dktX6_pour_4 := dk_seg dksX6_pour_3 24 rfl rfl
theorem dksX6_pour_5 : cX6_pour.data.toList.drop 115 = dktX6_pour_5 := dk_seg dksX6_pour_4 24 rfl rfl
theorem dksX6_pour_6 : cX6_pour.data.toList.drop 138 = dktX6_pour_6 := dk_seg dksX6_pour_5 23 rfl rfl
theorem dksX6_pour_7 : cX6_pour.data.toList.drop 160 = dktX6_pour_7 := dk_seg dksX6_pour_6 22 rfl rfl
theorem dksX6_pour_8 : cX6_pour.data.toList.drop 182 = dktX6_pour_8 := dk_seg dksX6_pour_7 22 rfl rfl
theorem dX6_pour_0 : decode cX6_pour 0 = .ok (.iload_n 1, 1) := dk_27 (dk_at dksX6_pour_0 0 rfl rfl)
theorem dX6_pour_1 : decode cX6_pour 1 = .ok (.invokestatic 86, 3) := dk_184 0 86 (dk_at dksX6_pour_0 1 rfl rfl)
theorem dX6_pour_4 : decode cX6_pour 4 = .ok (.ifCond .eq 24, 3) := dk_153 0 24 (dk_at dksX6_pour_0 4 rfl rfl)
theorem dX6_pour_7 : decode cX6_pour 7 = .ok (.iload_n 3, 1) := dk_29 (dk_at dksX6_pour_0 7 rfl rfl)
theorem dX6_pour_8 : decode cX6_pour 8 = .ok (.invokestatic 86, 3) := dk_184 0 86 (dk_at dksX6_pour_0 8 rfl rfl)
theorem dX6_pour_11 : decode cX6_pour 11 = .ok (.ifCond .eq 17, 3) := dk_153 0 17 (dk_at dksX6_pour_0 11 rfl rfl)
theorem dX6_pour_14 : decode cX6_pour 14 = .ok (.iload_n 2, 1) := dk_28 (dk_at dksX6_pour_0 14 rfl rfl)
theorem dX6_pour_15 : decode cX6_pour 15 = .ok (.ifCond .lt 13, 3) := dk_155 0 13 (dk_at dksX6_pour_0 15 rfl rfl)
theorem dX6_pour_18 : decode cX6_pour 18 = .ok (.iload 4, 2) := dk_21 4 (dk_at dksX6_pour_0 18 rfl rfl)
theorem dX6_pour_20 : decode cX6_pour 20 = .ok (.ifCond .lt 8, 3) := dk_155 0 8 (dk_at dksX6_pour_0 20 rfl rfl)
theorem dX6_pour_23 : decode cX6_pour 23 = .ok (.iload 5, 2) := dk_21 5 (dk_at dksX6_pour_1 0 rfl rfl)
theorem dX6_pour_25 : decode cX6_pour 25 = .ok (.ifCond .ge 9, 3) := dk_156 0 9 (dk_at dksX6_pour_1 2 rfl rfl)
theorem dX6_pour_28 : decode cX6_pour 28 = .ok (.aload_n 0, 1) := dk_42 (dk_at dksX6_pour_1 5 rfl rfl)
theorem dX6_pour_29 : decode cX6_pour 29 = .ok (.iconst 1, 1) := dk_4 (dk_at dksX6_pour_1 6 rfl rfl)
theorem dX6_pour_30 : decode cX6_pour 30 = .ok (.invokevirtual 82, 3) := dk_182 0 82 (dk_at dksX6_pour_1 7 rfl rfl)
theorem dX6_pour_33 : decode cX6_pour 33 = .ok (.ireturn, 1) := dk_172 (dk_at dksX6_pour_1 10 rfl rfl)
theorem dX6_pour_34 : decode cX6_pour 34 = .ok (.aload_n 0, 1) := dk_42 (dk_at dksX6_pour_1 11 rfl rfl)
theorem dX6_pour_35 : decode cX6_pour 35 = .ok (.getfield 24, 3) := dk_180 0 24 (dk_at dksX6_pour_1 12 rfl rfl)
theorem dX6_pour_38 : decode cX6_pour 38 = .ok (.iload_n 1, 1) := dk_27 (dk_at dksX6_pour_1 15 rfl rfl)
theorem dX6_pour_39 : decode cX6_pour 39 = .ok (.iaload, 1) := dk_46 (dk_at dksX6_pour_1 16 rfl rfl)
theorem dX6_pour_40 : decode cX6_pour 40 = .ok (.iconst (-1), 1) := dk_2 (dk_at dksX6_pour_1 17 rfl rfl)
theorem dX6_pour_41 : decode cX6_pour 41 = .ok (.if_icmp .eq 13, 3) := dk_159 0 13 (dk_at dksX6_pour_1 18 rfl rfl)
theorem dX6_pour_44 : decode cX6_pour 44 = .ok (.aload_n 0, 1) := dk_42 (dk_at dksX6_pour_1 21 rfl rfl)
theorem dX6_pour_45 : decode cX6_pour 45 = .ok (.getfield 24, 3) := dk_180 0 24 (dk_at dksX6_pour_2 0 rfl rfl)
theorem dX6_pour_48 : decode cX6_pour 48 = .ok (.iload_n 3, 1) := dk_29 (dk_at dksX6_pour_2 3 rfl rfl)
theorem dX6_pour_49 : decode cX6_pour 49 = .ok (.iaload, 1) := dk_46 (dk_at dksX6_pour_2 4 rfl rfl)
theorem dX6_pour_50 : decode cX6_pour 50 = .ok (.iconst (-1), 1) := dk_2 (dk_at dksX6_pour_2 5 rfl rfl)
theorem dX6_pour_51 : decode cX6_pour 51 = .ok (.if_icmp .ne 9, 3) := dk_160 0 9 (dk_at dksX6_pour_2 6 rfl rfl)
theorem dX6_pour_54 : decode cX6_pour 54 = .ok (.aload_n 0, 1) := dk_42 (dk_at dksX6_pour_2 9 rfl rfl)
theorem dX6_pour_55 : decode cX6_pour 55 = .ok (.iconst 2, 1) := dk_5 (dk_at dksX6_pour_2 10 rfl rfl)
theorem dX6_pour_56 : decode cX6_pour 56 = .ok (.invokevirtual 82, 3) := dk_182 0 82 (dk_at dksX6_pour_2 11 rfl rfl)
theorem dX6_pour_59 : decode cX6_pour 59 = .ok (.ireturn, 1) := dk_172 (dk_at dksX6_pour_2 14 rfl rfl)
theorem dX6_pour_60 : decode cX6_pour 60 = .ok (.aload_n 0, 1) := dk_42 (dk_at dksX6_pour_2 15 rfl rfl)
theorem dX6_pour_61 : decode cX6_pour 61 = .ok (.getfield 21, 3) := dk_180 0 21 (dk_at dksX6_pour_2 16 rfl rfl)
theorem dX6_pour_64 : decode cX6_pour 64 = .ok (.iload_n 1, 1) := dk_27 (dk_at dksX6_pour_2 19 rfl rfl)
theorem dX6_pour_65 : decode cX6_pour 65 = .ok (.iaload, 1) := dk_46 (dk_at dksX6_pour_2 20 rfl rfl)
theorem dX6_pour_66 : decode cX6_pour 66 = .ok (.aload_n 0, 1) := dk_42 (dk_at dksX6_pour_2 21 rfl rfl)
theorem dX6_pour_67 : decode cX6_pour 67 = .ok (.getfield 21, 3) := dk_180 0 21 (dk_at dksX6_pour_3 0 rfl rfl)
theorem dX6_pour_70 : decode cX6_pour 70 = .ok (.iload_n 3, 1) := dk_29 (dk_at dksX6_pour_3 3 rfl rfl)
theorem dX6_pour_71 : decode cX6_pour 71 = .ok (.iaload, 1) := dk_46 (dk_at dksX6_pour_3 4 rfl rfl)
theorem dX6_pour_72 : decode cX6_pour 72 = .ok (.if_icmp .eq 10, 3) := dk_159 0 10 (dk_at dksX6_pour_3 5 rfl rfl)
theorem dX6_pour_75 : decode cX6_pour 75 = .ok (.aload_n 0, 1) := dk_42 (dk_at dksX6_pour_3 8 rfl rfl)
theorem dX6_pour_76 : decode cX6_pour 76 = .ok (.bipush 8, 2) := dk_16 8 (dk_at dksX6_pour_3 9 rfl rfl)
theorem dX6_pour_78 : decode cX6_pour 78 = .ok (.invokevirtual 82, 3) := dk_182 0 82 (dk_at dksX6_pour_3 11 rfl rfl)
theorem dX6_pour_81 : decode cX6_pour 81 = .ok (.ireturn, 1) := dk_172 (dk_at dksX6_pour_3 14 rfl rfl)
theorem dX6_pour_82 : decode cX6_pour 82 = .ok (.iload 5, 2) := dk_21 5 (dk_at dksX6_pour_3 15 rfl rfl)
theorem dX6_pour_84 : decode cX6_pour 84 = .ok (.aload_n 0, 1) := dk_42 (dk_at dksX6_pour_3 17 rfl rfl)
theorem dX6_pour_85 : decode cX6_pour 85 = .ok (.getfield 24, 3) := dk_180 0 24 (dk_at dksX6_pour_3 18 rfl rfl)
theorem dX6_pour_88 : decode cX6_pour 88 = .ok (.iload_n 1, 1) := dk_27 (dk_at dksX6_pour_3 21 rfl rfl)
theorem dX6_pour_89 : decode cX6_pour 89 = .ok (.iaload, 1) := dk_46 (dk_at dksX6_pour_3 22 rfl rfl)
theorem dX6_pour_90 : decode cX6_pour 90 = .ok (.iload_n 2, 1) := dk_28 (dk_at dksX6_pour_3 23 rfl rfl)
theorem dX6_pour_91 : decode cX6_pour 91 = .ok (.isub, 1) := dk_100 (dk_at dksX6_pour_4 0 rfl rfl)
theorem dX6_pour_92 : decode cX6_pour 92 = .ok (.if_icmp .gt 17, 3) := dk_163 0 17 (dk_at dksX6_pour_4 1 rfl rfl)
theorem dX6_pour_95 : decode cX6_pour 95 = .ok (.iload 5, 2) := dk_21 5 (dk_at dksX6_pour_4 4 rfl rfl)
theorem dX6_pour_97 : decode cX6_pour 97 = .ok (.aload_n 0, 1) := dk_42 (dk_at dksX6_pour_4 6 rfl rfl)
theorem dX6_pour_98 : decode cX6_pour 98 = .ok (.getfield 24, 3) := dk_180 0 24 (dk_at dksX6_pour_4 7 rfl rfl)
theorem dX6_pour_101 : decode cX6_pour 101 = .ok (.iload_n 3, 1) := dk_29 (dk_at dksX6_pour_4 10 rfl rfl)
theorem dX6_pour_102 : decode cX6_pour 102 = .ok (.iaload, 1) := dk_46 (dk_at dksX6_pour_4 11 rfl rfl)
theorem dX6_pour_103 : decode cX6_pour 103 = .ok (.iload 4, 2) := dk_21 4 (dk_at dksX6_pour_4 12 rfl rfl)
theorem dX6_pour_105 : decode cX6_pour 105 = .ok (.isub, 1) := dk_100 (dk_at dksX6_pour_4 14 rfl rfl)
theorem dX6_pour_106 : decode cX6_pour 106 = .ok (.if_icmp .le 9, 3) := dk_164 0 9 (dk_at dksX6_pour_4 15 rfl rfl)
theorem dX6_pour_109 : decode cX6_pour 109 = .ok (.aload_n 0, 1) := dk_42 (dk_at dksX6_pour_4 18 rfl rfl)
theorem dX6_pour_110 : decode cX6_pour 110 = .ok (.iconst 3, 1) := dk_6 (dk_at dksX6_pour_4 19 rfl rfl)
theorem dX6_pour_111 : decode cX6_pour 111 = .ok (.invokevirtual 82, 3) := dk_182 0 82 (dk_at dksX6_pour_4 20 rfl rfl)
theorem dX6_pour_114 : decode cX6_pour 114 = .ok (.ireturn, 1) := dk_172 (dk_at dksX6_pour_4 23 rfl rfl)
theorem dX6_pour_115 : decode cX6_pour 115 = .ok (.iconst 0, 1) := dk_3 (dk_at dksX6_pour_5 0 rfl rfl)
theorem dX6_pour_116 : decode cX6_pour 116 = .ok (.istore 6, 2) := dk_54 6 (dk_at dksX6_pour_5 1 rfl rfl)
theorem dX6_pour_118 : decode cX6_pour 118 = .ok (.iload 6, 2) := dk_21 6 (dk_at dksX6_pour_5 3 rfl rfl)
theorem dX6_pour_120 : decode cX6_pour 120 = .ok (.iload 5, 2) := dk_21 5 (dk_at dksX6_pour_5 5 rfl rfl)
theorem dX6_pour_122 : decode cX6_pour 122 = .ok (.if_icmp .ge 58, 3) := dk_162 0 58 (dk_at dksX6_pour_5 7 rfl rfl)
theorem dX6_pour_125 : decode cX6_pour 125 = .ok (.iload_n 2, 1) := dk_28 (dk_at dksX6_pour_5 10 rfl rfl)
theorem dX6_pour_126 : decode cX6_pour 126 = .ok (.iload 4, 2) := dk_21 4 (dk_at dksX6_pour_5 11 rfl rfl)
theorem dX6_pour_128 : decode cX6_pour 128 = .ok (.if_icmp .ge 13, 3) := dk_162 0 13 (dk_at dksX6_pour_5 13 rfl rfl)
theorem dX6_pour_131 : decode cX6_pour 131 = .ok (.iload 5, 2) := dk_21 5 (dk_at dksX6_pour_5 16 rfl rfl)
theorem dX6_pour_133 : decode cX6_pour 133 = .ok (.iconst 1, 1) := dk_4 (dk_at dksX6_pour_5 18 rfl rfl)
theorem dX6_pour_134 : decode cX6_pour 134 = .ok (.isub, 1) := dk_100 (dk_at dksX6_pour_5 19 rfl rfl)
theorem dX6_pour_135 : decode cX6_pour 135 = .ok (.iload 6, 2) := dk_21 6 (dk_at dksX6_pour_5 20 rfl rfl)
theorem dX6_pour_137 : decode cX6_pour 137 = .ok (.isub, 1) := dk_100 (dk_at dksX6_pour_5 22 rfl rfl)
theorem dX6_pour_138 : decode cX6_pour 138 = .ok (.goto 5, 3) := dk_167 0 5 (dk_at dksX6_pour_6 0 rfl rfl)
theorem dX6_pour_141 : decode cX6_pour 141 = .ok (.iload 6, 2) := dk_21 6 (dk_at dksX6_pour_6 3 rfl rfl)
theorem dX6_pour_143 : decode cX6_pour 143 = .ok (.istore 7, 2) := dk_54 7 (dk_at dksX6_pour_6 5 rfl rfl)
theorem dX6_pour_145 : decode cX6_pour 145 = .ok (.aload_n 0, 1) := dk_42 (dk_at dksX6_pour_6 7 rfl rfl)
theorem dX6_pour_146 : decode cX6_pour 146 = .ok (.getfield 27, 3) := dk_180 0 27 (dk_at dksX6_pour_6 8 rfl rfl)
theorem dX6_pour_149 : decode cX6_pour 149 = .ok (.bipush 60, 2) := dk_16 60 (dk_at dksX6_pour_6 11 rfl rfl)
theorem dX6_pour_151 : decode cX6_pour 151 = .ok (.iload_n 3, 1) := dk_29 (dk_at dksX6_pour_6 13 rfl rfl)
theorem dX6_pour_152 : decode cX6_pour 152 = .ok (.imul, 1) := dk_104 (dk_at dksX6_pour_6 14 rfl rfl)
theorem dX6_pour_153 : decode cX6_pour 153 = .ok (.iload 4, 2) := dk_21 4 (dk_at dksX6_pour_6 15 rfl rfl)
theorem dX6_pour_155 : decode cX6_pour 155 = .ok (.iadd, 1) := dk_96 (dk_at dksX6_pour_6 17 rfl rfl)
theorem dX6_pour_156 : decode cX6_pour 156 = .ok (.iload 7, 2) := dk_21 7 (dk_at dksX6_pour_6 18 rfl rfl)
theorem dX6_pour_158 : decode cX6_pour 158 = .ok (.iadd, 1) := dk_96 (dk_at dksX6_pour_6 20 rfl rfl)
theorem dX6_pour_159 : decode cX6_pour 159 = .ok (.aload_n 0, 1) := dk_42 (dk_at dksX6_pour_6 21 rfl rfl)
theorem dX6_pour_160 : decode cX6_pour 160 = .ok (.getfield 27, 3) := dk_180 0 27 (dk_at dksX6_pour_7 0 rfl rfl)
theorem dX6_pour_163 : decode cX6_pour 163 = .ok (.bipush 60, 2) := dk_16 60 (dk_at dksX6_pour_7 3 rfl rfl)
theorem dX6_pour_165 : decode cX6_pour 165 = .ok (.iload_n 1, 1) := dk_27 (dk_at dksX6_pour_7 5 rfl rfl)
theorem dX6_pour_166 : decode cX6_pour 166 = .ok (.imul, 1) := dk_104 (dk_at dksX6_pour_7 6 rfl rfl)
theorem dX6_pour_167 : decode cX6_pour 167 = .ok (.iload_n 2, 1) := dk_28 (dk_at dksX6_pour_7 7 rfl rfl)
theorem dX6_pour_168 : decode cX6_pour 168 = .ok (.iadd, 1) := dk_96 (dk_at dksX6_pour_7 8 rfl rfl)
theorem dX6_pour_169 : decode cX6_pour 169 = .ok (.iload 7, 2) := dk_21 7 (dk_at dksX6_pour_7 9 rfl rfl)
theorem dX6_pour_171 : decode cX6_pour 171 = .ok (.iadd, 1) := dk_96 (dk_at dksX6_pour_7 11 rfl rfl)
theorem dX6_pour_172 : decode cX6_pour 172 = .ok (.laload, 1) := dk_47 (dk_at dksX6_pour_7 12 rfl rfl)
theorem dX6_pour_173 : decode cX6_pour 173 = .ok (.lastore, 1) := dk_80 (dk_at dksX6_pour_7 13 rfl rfl)
theorem dX6_pour_174 : decode cX6_pour 174 = .ok (.iinc 6 1, 3) := dk_132 6 1 (dk_at dksX6_pour_7 14 rfl rfl)
theorem dX6_pour_177 : decode cX6_pour 177 = .ok (.goto (-59), 3) := dk_167 255 197 (dk_at dksX6_pour_7 17 rfl rfl)
theorem dX6_pour_180 : decode cX6_pour 180 = .ok (.aload_n 0, 1) := dk_42 (dk_at dksX6_pour_7 20 rfl rfl)
theorem dX6_pour_181 : decode cX6_pour 181 = .ok (.iconst 0, 1) := dk_3 (dk_at dksX6_pour_7 21 rfl rfl)
theorem dX6_pour_182 : decode cX6_pour 182 = .ok (.invokevirtual 82, 3) := dk_182 0 82 (dk_at dksX6_pour_8 0 rfl rfl)
theorem dX6_pour_185 : decode cX6_pour 185 = .ok (.ireturn, 1) := dk_172 (dk_at dksX6_pour_8 3 rfl rfl)
abbrev cX6_feed : ByteArray := prog_16_method_19_code
def yX6_feed : MethodName := ⟨RX6, "feed", "(IIIII)I"⟩
def dkwX6_feed_2 : List UInt8 := [172]
abbrev dktX6_feed_2 : List UInt8 := dkwX6_feed_2 ++ []
def dkwX6_feed_1 : List UInt8 := [182, 0, 102, 42, 29, 182, 0, 102, 42, 21, 4, 182, 0, 102, 42, 21, 5, 182, 0, 102, 42, 180, 0, 99]
abbrev dktX6_feed_1 : List UInt8 := dkwX6_feed_1 ++ dktX6_feed_2
def dkwX6_feed_0 : List UInt8 := [42, 180, 0, 99, 16, 20, 96, 17, 3, 132, 164, 0, 5, 2, 172, 42, 27, 182, 0, 102, 42, 28]
abbrev dktX6_feed_0 : List UInt8 := dkwX6_feed_0 ++ dktX6_feed_1
theorem dksX6_feed_0 : cX6_feed.data.toList.drop 0 = dktX6_feed_0 := by decide +kernel
theorem dksX6_feed_1 : cX6_feed.data.toList.drop 22 = dktX6_feed_1 := dk_seg dksX6_feed_0 22 rfl rfl
theorem dksX6_feed_2 : cX6_feed.data.toList.drop 46 = dktX6_feed_2 := dk_seg dksX6_feed_1 24 rfl rfl
theorem dX6_feed_0 : decode cX6_feed 0 = .ok (.aload_n 0, 1) := dk_42 (dk_at dksX6_feed_0 0 rfl rfl)
theorem dX6_feed_1 : decode cX6_feed 1 = .ok (.getfield 99, 3) := dk_180 0 99 (dk_at dksX6_feed_0 1 rfl rfl)
theorem dX6_feed_4 : decode cX6_feed 4 = .ok (.bipush 20, 2) := dk_16 20 (dk_at dksX6_feed_0 4 rfl rfl)
theorem dX6_feed_6 : decode cX6_feed 6 = .ok (.iadd, 1) := dk_96 (dk_at dksX6_feed_0 6 rfl rfl)
theorem dX6_feed_7 : decode cX6_feed 7 = .ok (.sipush 900, 3) := dk_17 3 132 (dk_at dksX6_feed_0 7 rfl rfl)
theorem dX6_feed_10 : decode cX6_feed 10 = .ok (.if_icmp .le 5, 3) := dk_164 0 5 (dk_at dksX6_feed_0 10 rfl rfl)
theorem dX6_feed_13 : decode cX6_feed 13 = .ok (.iconst (-1), 1) := dk_2 (dk_at dksX6_feed_0 13 rfl rfl)
theorem dX6_feed_14 : decode cX6_feed 14 = .ok (.ireturn, 1) := dk_172 (dk_at dksX6_feed_0 14 rfl rfl)
theorem dX6_feed_15 : decode cX6_feed 15 = .ok (.aload_n 0, 1) := dk_42 (dk_at dksX6_feed_0 15 rfl rfl)
theorem dX6_feed_16 : decode cX6_feed 16 = .ok (.iload_n 1, 1) := dk_27 (dk_at dksX6_feed_0 16 rfl rfl)
theorem dX6_feed_17 : decode cX6_feed 17 = .ok (.invokevirtual 102, 3) := dk_182 0 102 (dk_at dksX6_feed_0 17 rfl rfl)
theorem dX6_feed_20 : decode cX6_feed 20 = .ok (.aload_n 0, 1) := dk_42 (dk_at dksX6_feed_0 20 rfl rfl)
theorem dX6_feed_21 : decode cX6_feed 21 = .ok (.iload_n 2, 1) := dk_28 (dk_at dksX6_feed_0 21 rfl rfl)
theorem dX6_feed_22 : decode cX6_feed 22 = .ok (.invokevirtual 102, 3) := dk_182 0 102 (dk_at dksX6_feed_1 0 rfl rfl)
theorem dX6_feed_25 : decode cX6_feed 25 = .ok (.aload_n 0, 1) := dk_42 (dk_at dksX6_feed_1 3 rfl rfl)
theorem dX6_feed_26 : decode cX6_feed 26 = .ok (.iload_n 3, 1) := dk_29 (dk_at dksX6_feed_1 4 rfl rfl)
theorem dX6_feed_27 : decode cX6_feed 27 = .ok (.invokevirtual 102, 3) := dk_182 0 102 (dk_at dksX6_feed_1 5 rfl rfl)
theorem dX6_feed_30 : decode cX6_feed 30 = .ok (.aload_n 0, 1) := dk_42 (dk_at dksX6_feed_1 8 rfl rfl)
theorem dX6_feed_31 : decode cX6_feed 31 = .ok (.iload 4, 2) := dk_21 4 (dk_at dksX6_feed_1 9 rfl rfl)
theorem dX6_feed_33 : decode cX6_feed 33 = .ok (.invokevirtual 102, 3) := dk_182 0 102 (dk_at dksX6_feed_1 11 rfl rfl)
theorem dX6_feed_36 : decode cX6_feed 36 = .ok (.aload_n 0, 1) := dk_42 (dk_at dksX6_feed_1 14 rfl rfl)
theorem dX6_feed_37 : decode cX6_feed 37 = .ok (.iload 5, 2) := dk_21 5 (dk_at dksX6_feed_1 15 rfl rfl)
theorem dX6_feed_39 : decode cX6_feed 39 = .ok (.invokevirtual 102, 3) := dk_182 0 102 (dk_at dksX6_feed_1 17 rfl rfl)
theorem dX6_feed_42 : decode cX6_feed 42 = .ok (.aload_n 0, 1) := dk_42 (dk_at dksX6_feed_1 20 rfl rfl)
theorem dX6_feed_43 : decode cX6_feed 43 = .ok (.getfield 99, 3) := dk_180 0 99 (dk_at dksX6_feed_1 21 rfl rfl)
theorem dX6_feed_46 : decode cX6_feed 46 = .ok (.ireturn, 1) := dk_172 (dk_at dksX6_feed_2 0 rfl rfl)
abbrev cX6_four : ByteArray := prog_16_method_20_code
def yX6_four : MethodName := ⟨RX6, "four", "(I)V"⟩
def dkwX6_four_1 : List UInt8 := [180, 0, 99, 4, 96, 181, 0, 99, 132, 2, 248, 167, 255, 226, 177]
abbrev dktX6_four_1 : List UInt8 := dkwX6_four_1 ++ []
def dkwX6_four_0 : List UInt8 := [16, 24, 61, 28, 155, 0, 32, 42, 180, 0, 30, 42, 180, 0, 99, 27, 28, 122, 145, 84, 42, 89]
abbrev dktX6_four_0 : List UInt8 := dkwX6_four_0 ++ dktX6_four_1
theorem dksX6_four_0 : cX6_four.data.toList.drop 0 = dktX6_four_0 := by decide +kernel
theorem dksX6_four_1 : cX6_four.data.toList.drop 22 = dktX6_four_1 := dk_seg dksX6_four_0 22 rfl rfl
theorem dX6_four_0 : decode cX6_four 0 = .ok (.bipush 24, 2) := dk_16 24 (dk_at dksX6_four_0 0 rfl rfl)
theorem dX6_four_2 : decode cX6_four 2 = .ok (.istore_n 2, 1) := dk_61 (dk_at dksX6_four_0 2 rfl rfl)
theorem dX6_four_3 : decode cX6_four 3 = .ok (.iload_n 2, 1) := dk_28 (dk_at dksX6_four_0 3 rfl rfl)
theorem dX6_four_4 : decode cX6_four 4 = .ok (.ifCond .lt 32, 3) := dk_155 0 32 (dk_at dksX6_four_0 4 rfl rfl)
theorem dX6_four_7 : decode cX6_four 7 = .ok (.aload_n 0, 1) := dk_42 (dk_at dksX6_four_0 7 rfl rfl)
theorem dX6_four_8 : decode cX6_four 8 = .ok (.getfield 30, 3) := dk_180 0 30 (dk_at dksX6_four_0 8 rfl rfl)
theorem dX6_four_11 : decode cX6_four 11 = .ok (.aload_n 0, 1) := dk_42 (dk_at dksX6_four_0 11 rfl rfl)
theorem dX6_four_12 : decode cX6_four 12 = .ok (.getfield 99, 3) := dk_180 0 99 (dk_at dksX6_four_0 12 rfl rfl)
theorem dX6_four_15 : decode cX6_four 15 = .ok (.iload_n 1, 1) := dk_27 (dk_at dksX6_four_0 15 rfl rfl)
theorem dX6_four_16 : decode cX6_four 16 = .ok (.iload_n 2, 1) := dk_28 (dk_at dksX6_four_0 16 rfl rfl)
theorem dX6_four_17 : decode cX6_four 17 = .ok (.ishr, 1) := dk_122 (dk_at dksX6_four_0 17 rfl rfl)
theorem dX6_four_18 : decode cX6_four 18 = .ok (.i2b, 1) := dk_145 (dk_at dksX6_four_0 18 rfl rfl)
theorem dX6_four_19 : decode cX6_four 19 = .ok (.bastore, 1) := dk_84 (dk_at dksX6_four_0 19 rfl rfl)
theorem dX6_four_20 : decode cX6_four 20 = .ok (.aload_n 0, 1) := dk_42 (dk_at dksX6_four_0 20 rfl rfl)
theorem dX6_four_21 : decode cX6_four 21 = .ok (.dup, 1) := dk_89 (dk_at dksX6_four_0 21 rfl rfl)
theorem dX6_four_22 : decode cX6_four 22 = .ok (.getfield 99, 3) := dk_180 0 99 (dk_at dksX6_four_1 0 rfl rfl)
theorem dX6_four_25 : decode cX6_four 25 = .ok (.iconst 1, 1) := dk_4 (dk_at dksX6_four_1 3 rfl rfl)
theorem dX6_four_26 : decode cX6_four 26 = .ok (.iadd, 1) := dk_96 (dk_at dksX6_four_1 4 rfl rfl)
theorem dX6_four_27 : decode cX6_four 27 = .ok (.putfield 99, 3) := dk_181 0 99 (dk_at dksX6_four_1 5 rfl rfl)
theorem dX6_four_30 : decode cX6_four 30 = .ok (.iinc 2 (-8), 3) := dk_132 2 248 (dk_at dksX6_four_1 8 rfl rfl)
theorem dX6_four_33 : decode cX6_four 33 = .ok (.goto (-30), 3) := dk_167 255 226 (dk_at dksX6_four_1 11 rfl rfl)
theorem dX6_four_36 : decode cX6_four 36 = .ok (.return_, 1) := dk_177 (dk_at dksX6_four_1 14 rfl rfl)
abbrev cX6_fault : ByteArray := prog_16_method_35_code
def yX6_fault : MethodName := ⟨RX6, "fault", "(I)I"⟩
def dkwX6_fault_1 : List UInt8 := [172]
abbrev dktX6_fault_1 : List UInt8 := dkwX6_fault_1 ++ []
def dkwX6_fault_0 : List UInt8 := [27, 154, 0, 10, 42, 180, 0, 37, 167, 0, 16, 27, 4, 160, 0, 10, 42, 180, 0, 41, 167, 0, 4, 2]
abbrev dktX6_fault_0 : List UInt8 := dkwX6_fault_0 ++ dktX6_fault_1
theorem dksX6_fault_0 : cX6_fault.data.toList.drop 0 = dktX6_fault_0 := by decide +kernel
theorem dksX6_fault_1 : cX6_fault.data.toList.drop 24 = dktX6_fault_1 := dk_seg dksX6_fault_0 24 rfl rfl
theorem dX6_fault_0 : decode cX6_fault 0 = .ok (.iload_n 1, 1) := dk_27 (dk_at dksX6_fault_0 0 rfl rfl)
theorem dX6_fault_1 : decode cX6_fault 1 = .ok (.ifCond .ne 10, 3) := dk_154 0 10 (dk_at dksX6_fault_0 1 rfl rfl)
theorem dX6_fault_4 : decode cX6_fault 4 = .ok (.aload_n 0, 1) := dk_42 (dk_at dksX6_fault_0 4 rfl rfl)
theorem dX6_fault_5 : decode cX6_fault 5 = .ok (.getfield 37, 3) := dk_180 0 37 (dk_at dksX6_fault_0 5 rfl rfl)
theorem dX6_fault_8 : decode cX6_fault 8 = .ok (.goto 16, 3) := dk_167 0 16 (dk_at dksX6_fault_0 8 rfl rfl)
theorem dX6_fault_11 : decode cX6_fault 11 = .ok (.iload_n 1, 1) := dk_27 (dk_at dksX6_fault_0 11 rfl rfl)
theorem dX6_fault_12 : decode cX6_fault 12 = .ok (.iconst 1, 1) := dk_4 (dk_at dksX6_fault_0 12 rfl rfl)
theorem dX6_fault_13 : decode cX6_fault 13 = .ok (.if_icmp .ne 10, 3) := dk_160 0 10 (dk_at dksX6_fault_0 13 rfl rfl)
theorem dX6_fault_16 : decode cX6_fault 16 = .ok (.aload_n 0, 1) := dk_42 (dk_at dksX6_fault_0 16 rfl rfl)
theorem dX6_fault_17 : decode cX6_fault 17 = .ok (.getfield 41, 3) := dk_180 0 41 (dk_at dksX6_fault_0 17 rfl rfl)
theorem dX6_fault_20 : decode cX6_fault 20 = .ok (.goto 4, 3) := dk_167 0 4 (dk_at dksX6_fault_0 20 rfl rfl)
theorem dX6_fault_23 : decode cX6_fault 23 = .ok (.iconst (-1), 1) := dk_2 (dk_at dksX6_fault_0 23 rfl rfl)
theorem dX6_fault_24 : decode cX6_fault 24 = .ok (.ireturn, 1) := dk_172 (dk_at dksX6_fault_1 0 rfl rfl)
abbrev cX6_table : ByteArray := prog_16_method_47_code
def yX6_table : MethodName := ⟨RX6, "table", "(I)I"⟩
def dkwX6_table_5 : List UInt8 := [42, 42, 180, 0, 7, 3, 46, 182, 0, 223, 172]
abbrev dktX6_table_5 : List UInt8 := dkwX6_table_5 ++ []
def dkwX6_table_4 : List UInt8 := [162, 0, 24, 42, 180, 0, 13, 29, 42, 180, 0, 13, 16, 24, 29, 96, 47, 80, 132, 3, 1, 167, 255, 232]
abbrev dktX6_table_4 : List UInt8 := dkwX6_table_4 ++ dktX6_table_5
def dkwX6_table_3 : List UInt8 := [42, 180, 0, 7, 17, 7, 208, 29, 96, 46, 79, 132, 3, 1, 167, 255, 230, 3, 62, 29, 16, 6]
abbrev dktX6_table_3 : List UInt8 := dkwX6_table_3 ++ dktX6_table_4
def dkwX6_table_2 : List UInt8 := [167, 255, 240, 42, 180, 0, 145, 154, 0, 63, 3, 62, 29, 17, 1, 244, 162, 0, 25, 42, 180, 0, 7, 29]
abbrev dktX6_table_2 : List UInt8 := dkwX6_table_2 ++ dktX6_table_3
def dkwX6_table_1 : List UInt8 := [42, 3, 181, 0, 195, 4, 61, 28, 153, 0, 18, 42, 180, 0, 120, 153, 0, 11, 42, 182, 0, 220, 61]
abbrev dktX6_table_1 : List UInt8 := dkwX6_table_1 ++ dktX6_table_2
def dkwX6_table_0 : List UInt8 := [42, 27, 17, 3, 132, 182, 0, 217, 154, 0, 9, 42, 4, 182, 0, 75, 172, 42, 17, 7, 208, 182, 0, 65]
abbrev dktX6_table_0 : List UInt8 := dkwX6_table_0 ++ dktX6_table_1
theorem dksX6_table_0 : cX6_table.data.toList.drop 0 = dktX6_table_0 := by decide +kernel
theorem dksX6_table_1 : cX6_table.data.toList.drop 24 = dktX6_table_1 := dk_seg dksX6_table_0 24 rfl rfl
theorem dksX6_table_2 : cX6_table.data.toList.drop 47 = dktX6_table_2 := dk_seg dksX6_table_1 23 rfl rfl
theorem dksX6_table_3 : cX6_table.data.toList.drop 71 = dktX6_table_3 := dk_seg dksX6_table_2 24 rfl rfl
theorem dksX6_table_4 : cX6_table.data.toList.drop 93 = dktX6_table_4 := dk_seg dksX6_table_3 22 rfl rfl
theorem dksX6_table_5 : cX6_table.data.toList.drop 117 = dktX6_table_5 := dk_seg dksX6_table_4 24 rfl rfl
theorem dX6_table_0 : decode cX6_table 0 = .ok (.aload_n 0, 1) := dk_42 (dk_at dksX6_table_0 0 rfl rfl)
theorem dX6_table_1 : decode cX6_table 1 = .ok (.iload_n 1, 1) := dk_27 (dk_at dksX6_table_0 1 rfl rfl)
theorem dX6_table_2 : decode cX6_table 2 = .ok (.sipush 900, 3) := dk_17 3 132 (dk_at dksX6_table_0 2 rfl rfl)
theorem dX6_table_5 : decode cX6_table 5 = .ok (.invokevirtual 217, 3) := dk_182 0 217 (dk_at dksX6_table_0 5 rfl rfl)
theorem dX6_table_8 : decode cX6_table 8 = .ok (.ifCond .ne 9, 3) := dk_154 0 9 (dk_at dksX6_table_0 8 rfl rfl)
theorem dX6_table_11 : decode cX6_table 11 = .ok (.aload_n 0, 1) := dk_42 (dk_at dksX6_table_0 11 rfl rfl)
theorem dX6_table_12 : decode cX6_table 12 = .ok (.iconst 1, 1) := dk_4 (dk_at dksX6_table_0 12 rfl rfl)
theorem dX6_table_13 : decode cX6_table 13 = .ok (.invokevirtual 75, 3) := dk_182 0 75 (dk_at dksX6_table_0 13 rfl rfl)
theorem dX6_table_16 : decode cX6_table 16 = .ok (.ireturn, 1) := dk_172 (dk_at dksX6_table_0 16 rfl rfl)
theorem dX6_table_17 : decode cX6_table 17 = .ok (.aload_n 0, 1) := dk_42 (dk_at dksX6_table_0 17 rfl rfl)
theorem dX6_table_18 : decode cX6_table 18 = .ok (.sipush 2000, 3) := dk_17 7 208 (dk_at dksX6_table_0 18 rfl rfl)
theorem dX6_table_21 : decode cX6_table 21 = .ok (.invokevirtual 65, 3) := dk_182 0 65 (dk_at dksX6_table_0 21 rfl rfl)
theorem dX6_table_24 : decode cX6_table 24 = .ok (.aload_n 0, 1) := dk_42 (dk_at dksX6_table_1 0 rfl rfl)
theorem dX6_table_25 : decode cX6_table 25 = .ok (.iconst 0, 1) := dk_3 (dk_at dksX6_table_1 1 rfl rfl)
theorem dX6_table_26 : decode cX6_table 26 = .ok (.putfield 195, 3) := dk_181 0 195 (dk_at dksX6_table_1 2 rfl rfl)
theorem dX6_table_29 : decode cX6_table 29 = .ok (.iconst 1, 1) := dk_4 (dk_at dksX6_table_1 5 rfl rfl)
theorem dX6_table_30 : decode cX6_table 30 = .ok (.istore_n 2, 1) := dk_61 (dk_at dksX6_table_1 6 rfl rfl)
theorem dX6_table_31 : decode cX6_table 31 = .ok (.iload_n 2, 1) := dk_28 (dk_at dksX6_table_1 7 rfl rfl)
theorem dX6_table_32 : decode cX6_table 32 = .ok (.ifCond .eq 18, 3) := dk_153 0 18 (dk_at dksX6_table_1 8 rfl rfl)
theorem dX6_table_35 : decode cX6_table 35 = .ok (.aload_n 0, 1) := dk_42 (dk_at dksX6_table_1 11 rfl rfl)
theorem dX6_table_36 : decode cX6_table 36 = .ok (.getfield 120, 3) := dk_180 0 120 (dk_at dksX6_table_1 12 rfl rfl)
theorem dX6_table_39 : decode cX6_table 39 = .ok (.ifCond .eq 11, 3) := dk_153 0 11 (dk_at dksX6_table_1 15 rfl rfl)
theorem dX6_table_42 : decode cX6_table 42 = .ok (.aload_n 0, 1) := dk_42 (dk_at dksX6_table_1 18 rfl rfl)
theorem dX6_table_43 : decode cX6_table 43 = .ok (.invokevirtual 220, 3) := dk_182 0 220 (dk_at dksX6_table_1 19 rfl rfl)
theorem dX6_table_46 : decode cX6_table 46 = .ok (.istore_n 2, 1) := dk_61 (dk_at dksX6_table_1 22 rfl rfl)
theorem dX6_table_47 : decode cX6_table 47 = .ok (.goto (-16), 3) := dk_167 255 240 (dk_at dksX6_table_2 0 rfl rfl)
theorem dX6_table_50 : decode cX6_table 50 = .ok (.aload_n 0, 1) := dk_42 (dk_at dksX6_table_2 3 rfl rfl)
theorem dX6_table_51 : decode cX6_table 51 = .ok (.getfield 145, 3) := dk_180 0 145 (dk_at dksX6_table_2 4 rfl rfl)
theorem dX6_table_54 : decode cX6_table 54 = .ok (.ifCond .ne 63, 3) := dk_154 0 63 (dk_at dksX6_table_2 7 rfl rfl)
theorem dX6_table_57 : decode cX6_table 57 = .ok (.iconst 0, 1) := dk_3 (dk_at dksX6_table_2 10 rfl rfl)
theorem dX6_table_58 : decode cX6_table 58 = .ok (.istore_n 3, 1) := dk_62 (dk_at dksX6_table_2 11 rfl rfl)
theorem dX6_table_59 : decode cX6_table 59 = .ok (.iload_n 3, 1) := dk_29 (dk_at dksX6_table_2 12 rfl rfl)
theorem dX6_table_60 : decode cX6_table 60 = .ok (.sipush 500, 3) := dk_17 1 244 (dk_at dksX6_table_2 13 rfl rfl)
theorem dX6_table_63 : decode cX6_table 63 = .ok (.if_icmp .ge 25, 3) := dk_162 0 25 (dk_at dksX6_table_2 16 rfl rfl)
theorem dX6_table_66 : decode cX6_table 66 = .ok (.aload_n 0, 1) := dk_42 (dk_at dksX6_table_2 19 rfl rfl)
theorem dX6_table_67 : decode cX6_table 67 = .ok (.getfield 7, 3) := dk_180 0 7 (dk_at dksX6_table_2 20 rfl rfl)
theorem dX6_table_70 : decode cX6_table 70 = .ok (.iload_n 3, 1) := dk_29 (dk_at dksX6_table_2 23 rfl rfl)
theorem dX6_table_71 : decode cX6_table 71 = .ok (.aload_n 0, 1) := dk_42 (dk_at dksX6_table_3 0 rfl rfl)
theorem dX6_table_72 : decode cX6_table 72 = .ok (.getfield 7, 3) := dk_180 0 7 (dk_at dksX6_table_3 1 rfl rfl)
theorem dX6_table_75 : decode cX6_table 75 = .ok (.sipush 2000, 3) := dk_17 7 208 (dk_at dksX6_table_3 4 rfl rfl)
theorem dX6_table_78 : decode cX6_table 78 = .ok (.iload_n 3, 1) := dk_29 (dk_at dksX6_table_3 7 rfl rfl)
theorem dX6_table_79 : decode cX6_table 79 = .ok (.iadd, 1) := dk_96 (dk_at dksX6_table_3 8 rfl rfl)
theorem dX6_table_80 : decode cX6_table 80 = .ok (.iaload, 1) := dk_46 (dk_at dksX6_table_3 9 rfl rfl)
theorem dX6_table_81 : decode cX6_table 81 = .ok (.iastore, 1) := dk_79 (dk_at dksX6_table_3 10 rfl rfl)
theorem dX6_table_82 : decode cX6_table 82 = .ok (.iinc 3 1, 3) := dk_132 3 1 (dk_at dksX6_table_3 11 rfl rfl)
theorem dX6_table_85 : decode cX6_table 85 = .ok (.goto (-26), 3) := dk_167 255 230 (dk_at dksX6_table_3 14 rfl rfl)
theorem dX6_table_88 : decode cX6_table 88 = .ok (.iconst 0, 1) := dk_3 (dk_at dksX6_table_3 17 rfl rfl)
theorem dX6_table_89 : decode cX6_table 89 = .ok (.istore_n 3, 1) := dk_62 (dk_at dksX6_table_3 18 rfl rfl)
theorem dX6_table_90 : decode cX6_table 90 = .ok (.iload_n 3, 1) := dk_29 (dk_at dksX6_table_3 19 rfl rfl)
theorem dX6_table_91 : decode cX6_table 91 = .ok (.bipush 6, 2) := dk_16 6 (dk_at dksX6_table_3 20 rfl rfl)
theorem dX6_table_93 : decode cX6_table 93 = .ok (.if_icmp .ge 24, 3) := dk_162 0 24 (dk_at dksX6_table_4 0 rfl rfl)
theorem dX6_table_96 : decode cX6_table 96 = .ok (.aload_n 0, 1) := dk_42 (dk_at dksX6_table_4 3 rfl rfl)
theorem dX6_table_97 : decode cX6_table 97 = .ok (.getfield 13, 3) := dk_180 0 13 (dk_at dksX6_table_4 4 rfl rfl)
theorem dX6_table_100 : decode cX6_table 100 = .ok (.iload_n 3, 1) := dk_29 (dk_at dksX6_table_4 7 rfl rfl)
theorem dX6_table_101 : decode cX6_table 101 = .ok (.aload_n 0, 1) := dk_42 (dk_at dksX6_table_4 8 rfl rfl)
theorem dX6_table_102 : decode cX6_table 102 = .ok (.getfield 13, 3) := dk_180 0 13 (dk_at dksX6_table_4 9 rfl rfl)
theorem dX6_table_105 : decode cX6_table 105 = .ok (.bipush 24, 2) := dk_16 24 (dk_at dksX6_table_4 12 rfl rfl)
theorem dX6_table_107 : decode cX6_table 107 = .ok (.iload_n 3, 1) := dk_29 (dk_at dksX6_table_4 14 rfl rfl)
theorem dX6_table_108 : decode cX6_table 108 = .ok (.iadd, 1) := dk_96 (dk_at dksX6_table_4 15 rfl rfl)
theorem dX6_table_109 : decode cX6_table 109 = .ok (.laload, 1) := dk_47 (dk_at dksX6_table_4 16 rfl rfl)
theorem dX6_table_110 : decode cX6_table 110 = .ok (.lastore, 1) := dk_80 (dk_at dksX6_table_4 17 rfl rfl)
theorem dX6_table_111 : decode cX6_table 111 = .ok (.iinc 3 1, 3) := dk_132 3 1 (dk_at dksX6_table_4 18 rfl rfl)
theorem dX6_table_114 : decode cX6_table 114 = .ok (.goto (-24), 3) := dk_167 255 232 (dk_at dksX6_table_4 21 rfl rfl)
theorem dX6_table_117 : decode cX6_table 117 = .ok (.aload_n 0, 1) := dk_42 (dk_at dksX6_table_5 0 rfl rfl)
theorem dX6_table_118 : decode cX6_table 118 = .ok (.aload_n 0, 1) := dk_42 (dk_at dksX6_table_5 1 rfl rfl)
theorem dX6_table_119 : decode cX6_table 119 = .ok (.getfield 7, 3) := dk_180 0 7 (dk_at dksX6_table_5 2 rfl rfl)
theorem dX6_table_122 : decode cX6_table 122 = .ok (.iconst 0, 1) := dk_3 (dk_at dksX6_table_5 5 rfl rfl)
theorem dX6_table_123 : decode cX6_table 123 = .ok (.iaload, 1) := dk_46 (dk_at dksX6_table_5 6 rfl rfl)
theorem dX6_table_124 : decode cX6_table 124 = .ok (.invokevirtual 223, 3) := dk_182 0 223 (dk_at dksX6_table_5 7 rfl rfl)
theorem dX6_table_127 : decode cX6_table 127 = .ok (.ireturn, 1) := dk_172 (dk_at dksX6_table_5 10 rfl rfl)
abbrev cX6_begins : ByteArray := prog_16_method_28_code
def yX6_begins : MethodName := ⟨RX6, "begins", "(II)Z"⟩
def dkwX6_begins_3 : List UInt8 := [3, 181, 0, 148, 42, 182, 0, 151, 4, 172]
abbrev dktX6_begins_3 : List UInt8 := dkwX6_begins_3 ++ []
def dkwX6_begins_2 : List UInt8 := [167, 255, 236, 42, 3, 181, 0, 99, 42, 3, 181, 0, 145, 42, 2, 181, 0, 41, 42, 3, 181, 0, 108, 42]
abbrev dktX6_begins_2 : List UInt8 := dkwX6_begins_2 ++ dktX6_begins_3
def dkwX6_begins_1 : List UInt8 := [3, 62, 29, 27, 162, 0, 21, 42, 180, 0, 34, 29, 42, 180, 0, 30, 29, 51, 84, 132, 3, 1]
abbrev dktX6_begins_1 : List UInt8 := dkwX6_begins_1 ++ dktX6_begins_2
def dkwX6_begins_0 : List UInt8 := [27, 155, 0, 16, 27, 42, 180, 0, 99, 163, 0, 8, 27, 28, 164, 0, 5, 3, 172, 42, 27, 181, 0, 105]
abbrev dktX6_begins_0 : List UInt8 := dkwX6_begins_0 ++ dktX6_begins_1
theorem dksX6_begins_0 : cX6_begins.data.toList.drop 0 = dktX6_begins_0 := by decide +kernel
theorem dksX6_begins_1 : cX6_begins.data.toList.drop 24 = dktX6_begins_1 := dk_seg dksX6_begins_0 24 rfl rfl
theorem dksX6_begins_2 : cX6_begins.data.toList.drop 46 = dktX6_begins_2 := dk_seg dksX6_begins_1 22 rfl rfl
theorem dksX6_begins_3 : cX6_begins.data.toList.drop 70 = dktX6_begins_3 := dk_seg dksX6_begins_2 24 rfl rfl
theorem dX6_begins_0 : decode cX6_begins 0 = .ok (.iload_n 1, 1) := dk_27 (dk_at dksX6_begins_0 0 rfl rfl)
theorem dX6_begins_1 : decode cX6_begins 1 = .ok (.ifCond .lt 16, 3) := dk_155 0 16 (dk_at dksX6_begins_0 1 rfl rfl)
theorem dX6_begins_4 : decode cX6_begins 4 = .ok (.iload_n 1, 1) := dk_27 (dk_at dksX6_begins_0 4 rfl rfl)
theorem dX6_begins_5 : decode cX6_begins 5 = .ok (.aload_n 0, 1) := dk_42 (dk_at dksX6_begins_0 5 rfl rfl)
theorem dX6_begins_6 : decode cX6_begins 6 = .ok (.getfield 99, 3) := dk_180 0 99 (dk_at dksX6_begins_0 6 rfl rfl)
theorem dX6_begins_9 : decode cX6_begins 9 = .ok (.if_icmp .gt 8, 3) := dk_163 0 8 (dk_at dksX6_begins_0 9 rfl rfl)
theorem dX6_begins_12 : decode cX6_begins 12 = .ok (.iload_n 1, 1) := dk_27 (dk_at dksX6_begins_0 12 rfl rfl)
theorem dX6_begins_13 : decode cX6_begins 13 = .ok (.iload_n 2, 1) := dk_28 (dk_at dksX6_begins_0 13 rfl rfl)
theorem dX6_begins_14 : decode cX6_begins 14 = .ok (.if_icmp .le 5, 3) := dk_164 0 5 (dk_at dksX6_begins_0 14 rfl rfl)
theorem dX6_begins_17 : decode cX6_begins 17 = .ok (.iconst 0, 1) := dk_3 (dk_at dksX6_begins_0 17 rfl rfl)
theorem dX6_begins_18 : decode cX6_begins 18 = .ok (.ireturn, 1) := dk_172 (dk_at dksX6_begins_0 18 rfl rfl)
theorem dX6_begins_19 : decode cX6_begins 19 = .ok (.aload_n 0, 1) := dk_42 (dk_at dksX6_begins_0 19 rfl rfl)
theorem dX6_begins_20 : decode cX6_begins 20 = .ok (.iload_n 1, 1) := dk_27 (dk_at dksX6_begins_0 20 rfl rfl)
theorem dX6_begins_21 : decode cX6_begins 21 = .ok (.putfield 105, 3) := dk_181 0 105 (dk_at dksX6_begins_0 21 rfl rfl)
theorem dX6_begins_24 : decode cX6_begins 24 = .ok (.iconst 0, 1) := dk_3 (dk_at dksX6_begins_1 0 rfl rfl)
theorem dX6_begins_25 : decode cX6_begins 25 = .ok (.istore_n 3, 1) := dk_62 (dk_at dksX6_begins_1 1 rfl rfl)
theorem dX6_begins_26 : decode cX6_begins 26 = .ok (.iload_n 3, 1) := dk_29 (dk_at dksX6_begins_1 2 rfl rfl)
theorem dX6_begins_27 : decode cX6_begins 27 = .ok (.iload_n 1, 1) := dk_27 (dk_at dksX6_begins_1 3 rfl rfl)
theorem dX6_begins_28 : decode cX6_begins 28 = .ok (.if_icmp .ge 21, 3) := dk_162 0 21 (dk_at dksX6_begins_1 4 rfl rfl)
theorem dX6_begins_31 : decode cX6_begins 31 = .ok (.aload_n 0, 1) := dk_42 (dk_at dksX6_begins_1 7 rfl rfl)
theorem dX6_begins_32 : decode cX6_begins 32 = .ok (.getfield 34, 3) := dk_180 0 34 (dk_at dksX6_begins_1 8 rfl rfl)
theorem dX6_begins_35 : decode cX6_begins 35 = .ok (.iload_n 3, 1) := dk_29 (dk_at dksX6_begins_1 11 rfl rfl)
theorem dX6_begins_36 : decode cX6_begins 36 = .ok (.aload_n 0, 1) := dk_42 (dk_at dksX6_begins_1 12 rfl rfl)
theorem dX6_begins_37 : decode cX6_begins 37 = .ok (.getfield 30, 3) := dk_180 0 30 (dk_at dksX6_begins_1 13 rfl rfl)
theorem dX6_begins_40 : decode cX6_begins 40 = .ok (.iload_n 3, 1) := dk_29 (dk_at dksX6_begins_1 16 rfl rfl)
theorem dX6_begins_41 : decode cX6_begins 41 = .ok (.baload, 1) := dk_51 (dk_at dksX6_begins_1 17 rfl rfl)
theorem dX6_begins_42 : decode cX6_begins 42 = .ok (.bastore, 1) := dk_84 (dk_at dksX6_begins_1 18 rfl rfl)
theorem dX6_begins_43 : decode cX6_begins 43 = .ok (.iinc 3 1, 3) := dk_132 3 1 (dk_at dksX6_begins_1 19 rfl rfl)
theorem dX6_begins_46 : decode cX6_begins 46 = .ok (.goto (-20), 3) := dk_167 255 236 (dk_at dksX6_begins_2 0 rfl rfl)
theorem dX6_begins_49 : decode cX6_begins 49 = .ok (.aload_n 0, 1) := dk_42 (dk_at dksX6_begins_2 3 rfl rfl)
theorem dX6_begins_50 : decode cX6_begins 50 = .ok (.iconst 0, 1) := dk_3 (dk_at dksX6_begins_2 4 rfl rfl)
theorem dX6_begins_51 : decode cX6_begins 51 = .ok (.putfield 99, 3) := dk_181 0 99 (dk_at dksX6_begins_2 5 rfl rfl)
theorem dX6_begins_54 : decode cX6_begins 54 = .ok (.aload_n 0, 1) := dk_42 (dk_at dksX6_begins_2 8 rfl rfl)
theorem dX6_begins_55 : decode cX6_begins 55 = .ok (.iconst 0, 1) := dk_3 (dk_at dksX6_begins_2 9 rfl rfl)
theorem dX6_begins_56 : decode cX6_begins 56 = .ok (.putfield 145, 3) := dk_181 0 145 (dk_at dksX6_begins_2 10 rfl rfl)
theorem dX6_begins_59 : decode cX6_begins 59 = .ok (.aload_n 0, 1) := dk_42 (dk_at dksX6_begins_2 13 rfl rfl)
theorem dX6_begins_60 : decode cX6_begins 60 = .ok (.iconst (-1), 1) := dk_2 (dk_at dksX6_begins_2 14 rfl rfl)
theorem dX6_begins_61 : decode cX6_begins 61 = .ok (.putfield 41, 3) := dk_181 0 41 (dk_at dksX6_begins_2 15 rfl rfl)
theorem dX6_begins_64 : decode cX6_begins 64 = .ok (.aload_n 0, 1) := dk_42 (dk_at dksX6_begins_2 18 rfl rfl)
theorem dX6_begins_65 : decode cX6_begins 65 = .ok (.iconst 0, 1) := dk_3 (dk_at dksX6_begins_2 19 rfl rfl)
theorem dX6_begins_66 : decode cX6_begins 66 = .ok (.putfield 108, 3) := dk_181 0 108 (dk_at dksX6_begins_2 20 rfl rfl)
theorem dX6_begins_69 : decode cX6_begins 69 = .ok (.aload_n 0, 1) := dk_42 (dk_at dksX6_begins_2 23 rfl rfl)
theorem dX6_begins_70 : decode cX6_begins 70 = .ok (.iconst 0, 1) := dk_3 (dk_at dksX6_begins_3 0 rfl rfl)
theorem dX6_begins_71 : decode cX6_begins 71 = .ok (.putfield 148, 3) := dk_181 0 148 (dk_at dksX6_begins_3 1 rfl rfl)
theorem dX6_begins_74 : decode cX6_begins 74 = .ok (.aload_n 0, 1) := dk_42 (dk_at dksX6_begins_3 4 rfl rfl)
theorem dX6_begins_75 : decode cX6_begins 75 = .ok (.invokevirtual 151, 3) := dk_182 0 151 (dk_at dksX6_begins_3 5 rfl rfl)
theorem dX6_begins_78 : decode cX6_begins 78 = .ok (.iconst 1, 1) := dk_4 (dk_at dksX6_begins_3 8 rfl rfl)
theorem dX6_begins_79 : decode cX6_begins 79 = .ok (.ireturn, 1) := dk_172 (dk_at dksX6_begins_3 9 rfl rfl)
abbrev cX6_ahead : ByteArray := prog_16_method_24_code
def yX6_ahead : MethodName := ⟨RX6, "ahead", "()V"⟩
def dkwX6_ahead_10 : List UInt8 := [16, 62, 159, 0, 9, 27, 16, 61, 160, 0, 7, 7, 167, 0, 4, 4, 181, 0, 120, 177]
abbrev dktX6_ahead_10 : List UInt8 := dkwX6_ahead_10 ++ []
def dkwX6_ahead_9 : List UInt8 := [89, 180, 0, 108, 4, 96, 181, 0, 108, 42, 27, 16, 59, 159, 0, 21, 27, 16, 60, 159, 0, 15, 27]
abbrev dktX6_ahead_9 : List UInt8 := dkwX6_ahead_9 ++ dktX6_ahead_10
def dkwX6_ahead_8 : List UInt8 := [180, 0, 108, 42, 180, 0, 114, 100, 7, 164, 0, 7, 4, 167, 0, 4, 6, 181, 0, 120, 167, 0, 46, 42]
abbrev dktX6_ahead_8 : List UInt8 := dkwX6_ahead_8 ++ dktX6_ahead_9
def dkwX6_ahead_7 : List UInt8 := [100, 184, 0, 130, 181, 0, 117, 42, 89, 180, 0, 108, 4, 96, 181, 0, 108, 167, 255, 204, 42, 42]
abbrev dktX6_ahead_7 : List UInt8 := dkwX6_ahead_7 ++ dktX6_ahead_8
def dkwX6_ahead_6 : List UInt8 := [153, 0, 44, 42, 18, 129, 16, 10, 42, 180, 0, 117, 104, 42, 42, 180, 0, 108, 182, 0, 111, 96, 16, 48]
abbrev dktX6_ahead_6 : List UInt8 := dkwX6_ahead_6 ++ dktX6_ahead_7
def dkwX6_ahead_5 : List UInt8 := [184, 0, 126, 153, 0, 88, 42, 3, 181, 0, 117, 42, 42, 180, 0, 108, 182, 0, 111, 184, 0, 126]
abbrev dktX6_ahead_5 : List UInt8 := dkwX6_ahead_5 ++ dktX6_ahead_6
def dkwX6_ahead_4 : List UInt8 := [42, 89, 180, 0, 108, 4, 96, 181, 0, 108, 167, 255, 232, 42, 5, 181, 0, 120, 167, 0, 138, 27]
abbrev dktX6_ahead_4 : List UInt8 := dkwX6_ahead_4 ++ dktX6_ahead_5
def dkwX6_ahead_3 : List UInt8 := [167, 0, 180, 27, 184, 0, 123, 153, 0, 38, 42, 42, 180, 0, 108, 182, 0, 111, 184, 0, 123, 153, 0, 16]
abbrev dktX6_ahead_3 : List UInt8 := dkwX6_ahead_3 ++ dktX6_ahead_4
def dkwX6_ahead_2 : List UInt8 := [42, 42, 180, 0, 108, 182, 0, 111, 60, 42, 27, 181, 0, 117, 27, 2, 160, 0, 11, 42, 3, 181, 0, 120]
abbrev dktX6_ahead_2 : List UInt8 := dkwX6_ahead_2 ++ dktX6_ahead_3
def dkwX6_ahead_1 : List UInt8 := [160, 0, 16, 42, 89, 180, 0, 108, 4, 96, 181, 0, 108, 167, 255, 220, 42, 42, 180, 0, 108, 181, 0, 114]
abbrev dktX6_ahead_1 : List UInt8 := dkwX6_ahead_1 ++ dktX6_ahead_2
def dkwX6_ahead_0 : List UInt8 := [42, 42, 180, 0, 108, 182, 0, 111, 16, 32, 159, 0, 16, 42, 42, 180, 0, 108, 182, 0, 111, 16, 10]
abbrev dktX6_ahead_0 : List UInt8 := dkwX6_ahead_0 ++ dktX6_ahead_1
theorem dksX6_ahead_0 : cX6_ahead.data.toList.drop 0 = dktX6_ahead_0 := by decide +kernel
theorem dksX6_ahead_1 : cX6_ahead.data.toList.drop 23 = dktX6_ahead_1 := dk_seg dksX6_ahead_0 23 rfl rfl
theorem dksX6_ahead_2 : cX6_ahead.data.toList.drop 47 = dktX6_ahead_2 := dk_seg dksX6_ahead_1 24 rfl rfl
theorem dksX6_ahead_3 : cX6_ahead.data.toList.drop 71 = dktX6_ahead_3 := dk_seg dksX6_ahead_2 24 rfl rfl
theorem dksX6_ahead_4 : cX6_ahead.data.toList.drop 95 = dktX6_ahead_4 := dk_seg dksX6_ahead_3 24 rfl rfl
theorem dksX6_ahead_5 : cX6_ahead.data.toList.drop 117 = dktX6_ahead_5 := dk_seg dksX6_ahead_4 22 rfl rfl
theorem dksX6_ahead_6 : cX6_ahead.data.toList.drop 139 = dktX6_ahead_6 := dk_seg dksX6_ahead_5 22 rfl rfl
theorem dksX6_ahead_7 : cX6_ahead.data.toList.drop 163 = dktX6_ahead_7 := dk_seg dksX6_ahead_6 24 rfl rfl
theorem dksX6_ahead_8 : cX6_ahead.data.toList.drop 185 = dktX6_ahead_8 := dk_seg dksX6_ahead_7 22 rfl rfl
theorem dksX6_ahead_9 : cX6_ahead.data.toList.drop 209 = dktX6_ahead_9 := dk_seg dksX6_ahead_8 24 rfl rfl
theorem dksX6_ahead_10 : cX6_ahead.data.toList.drop 232 = dktX6_ahead_10 := dk_seg dksX6_ahead_9 23 rfl rfl
theorem dX6_ahead_0 : decode cX6_ahead 0 = .ok (.aload_n 0, 1) := dk_42 (dk_at dksX6_ahead_0 0 rfl rfl)
theorem dX6_ahead_1 : decode cX6_ahead 1 = .ok (.aload_n 0, 1) := dk_42 (dk_at dksX6_ahead_0 1 rfl rfl)
theorem dX6_ahead_2 : decode cX6_ahead 2 = .ok (.getfield 108, 3) := dk_180 0 108 (dk_at dksX6_ahead_0 2 rfl rfl)
theorem dX6_ahead_5 : decode cX6_ahead 5 = .ok (.invokevirtual 111, 3) := dk_182 0 111 (dk_at dksX6_ahead_0 5 rfl rfl)
theorem dX6_ahead_8 : decode cX6_ahead 8 = .ok (.bipush 32, 2) := dk_16 32 (dk_at dksX6_ahead_0 8 rfl rfl)
theorem dX6_ahead_10 : decode cX6_ahead 10 = .ok (.if_icmp .eq 16, 3) := dk_159 0 16 (dk_at dksX6_ahead_0 10 rfl rfl)
theorem dX6_ahead_13 : decode cX6_ahead 13 = .ok (.aload_n 0, 1) := dk_42 (dk_at dksX6_ahead_0 13 rfl rfl)
theorem dX6_ahead_14 : decode cX6_ahead 14 = .ok (.aload_n 0, 1) := dk_42 (dk_at dksX6_ahead_0 14 rfl rfl)
theorem dX6_ahead_15 : decode cX6_ahead 15 = .ok (.getfield 108, 3) := dk_180 0 108 (dk_at dksX6_ahead_0 15 rfl rfl)
theorem dX6_ahead_18 : decode cX6_ahead 18 = .ok (.invokevirtual 111, 3) := dk_182 0 111 (dk_at dksX6_ahead_0 18 rfl rfl)
theorem dX6_ahead_21 : decode cX6_ahead 21 = .ok (.bipush 10, 2) := dk_16 10 (dk_at dksX6_ahead_0 21 rfl rfl)
theorem dX6_ahead_23 : decode cX6_ahead 23 = .ok (.if_icmp .ne 16, 3) := dk_160 0 16 (dk_at dksX6_ahead_1 0 rfl rfl)
theorem dX6_ahead_26 : decode cX6_ahead 26 = .ok (.aload_n 0, 1) := dk_42 (dk_at dksX6_ahead_1 3 rfl rfl)
theorem dX6_ahead_27 : decode cX6_ahead 27 = .ok (.dup, 1) := dk_89 (dk_at dksX6_ahead_1 4 rfl rfl)
theorem dX6_ahead_28 : decode cX6_ahead 28 = .ok (.getfield 108, 3) := dk_180 0 108 (dk_at dksX6_ahead_1 5 rfl rfl)
theorem dX6_ahead_31 : decode cX6_ahead 31 = .ok (.iconst 1, 1) := dk_4 (dk_at dksX6_ahead_1 8 rfl rfl)
theorem dX6_ahead_32 : decode cX6_ahead 32 = .ok (.iadd, 1) := dk_96 (dk_at dksX6_ahead_1 9 rfl rfl)
theorem dX6_ahead_33 : decode cX6_ahead 33 = .ok (.putfield 108, 3) := dk_181 0 108 (dk_at dksX6_ahead_1 10 rfl rfl)
theorem dX6_ahead_36 : decode cX6_ahead 36 = .ok (.goto (-36), 3) := dk_167 255 220 (dk_at dksX6_ahead_1 13 rfl rfl)
theorem dX6_ahead_39 : decode cX6_ahead 39 = .ok (.aload_n 0, 1) := dk_42 (dk_at dksX6_ahead_1 16 rfl rfl)
theorem dX6_ahead_40 : decode cX6_ahead 40 = .ok (.aload_n 0, 1) := dk_42 (dk_at dksX6_ahead_1 17 rfl rfl)
theorem dX6_ahead_41 : decode cX6_ahead 41 = .ok (.getfield 108, 3) := dk_180 0 108 (dk_at dksX6_ahead_1 18 rfl rfl)
theorem dX6_ahead_44 : decode cX6_ahead 44 = .ok (.putfield 114, 3) := dk_181 0 114 (dk_at dksX6_ahead_1 21 rfl rfl)
theorem dX6_ahead_47 : decode cX6_ahead 47 = .ok (.aload_n 0, 1) := dk_42 (dk_at dksX6_ahead_2 0 rfl rfl)
theorem dX6_ahead_48 : decode cX6_ahead 48 = .ok (.aload_n 0, 1) := dk_42 (dk_at dksX6_ahead_2 1 rfl rfl)
theorem dX6_ahead_49 : decode cX6_ahead 49 = .ok (.getfield 108, 3) := dk_180 0 108 (dk_at dksX6_ahead_2 2 rfl rfl)
theorem dX6_ahead_52 : decode cX6_ahead 52 = .ok (.invokevirtual 111, 3) := dk_182 0 111 (dk_at dksX6_ahead_2 5 rfl rfl)
theorem dX6_ahead_55 : decode cX6_ahead 55 = .ok (.istore_n 1, 1) := dk_60 (dk_at dksX6_ahead_2 8 rfl rfl)
theorem dX6_ahead_56 : decode cX6_ahead 56 = .ok (.aload_n 0, 1) := dk_42 (dk_at dksX6_ahead_2 9 rfl rfl)
theorem dX6_ahead_57 : decode cX6_ahead 57 = .ok (.iload_n 1, 1) := dk_27 (dk_at dksX6_ahead_2 10 rfl rfl)
theorem dX6_ahead_58 : decode cX6_ahead 58 = .ok (.putfield 117, 3) := dk_181 0 117 (dk_at dksX6_ahead_2 11 rfl rfl)
theorem dX6_ahead_61 : decode cX6_ahead 61 = .ok (.iload_n 1, 1) := dk_27 (dk_at dksX6_ahead_2 14 rfl rfl)
theorem dX6_ahead_62 : decode cX6_ahead 62 = .ok (.iconst (-1), 1) := dk_2 (dk_at dksX6_ahead_2 15 rfl rfl)
theorem dX6_ahead_63 : decode cX6_ahead 63 = .ok (.if_icmp .ne 11, 3) := dk_160 0 11 (dk_at dksX6_ahead_2 16 rfl rfl)
theorem dX6_ahead_66 : decode cX6_ahead 66 = .ok (.aload_n 0, 1) := dk_42 (dk_at dksX6_ahead_2 19 rfl rfl)
theorem dX6_ahead_67 : decode cX6_ahead 67 = .ok (.iconst 0, 1) := dk_3 (dk_at dksX6_ahead_2 20 rfl rfl)
theorem dX6_ahead_68 : decode cX6_ahead 68 = .ok (.putfield 120, 3) := dk_181 0 120 (dk_at dksX6_ahead_2 21 rfl rfl)
theorem dX6_ahead_71 : decode cX6_ahead 71 = .ok (.goto 180, 3) := dk_167 0 180 (dk_at dksX6_ahead_3 0 rfl rfl)
theorem dX6_ahead_74 : decode cX6_ahead 74 = .ok (.iload_n 1, 1) := dk_27 (dk_at dksX6_ahead_3 3 rfl rfl)
theorem dX6_ahead_75 : decode cX6_ahead 75 = .ok (.invokestatic 123, 3) := dk_184 0 123 (dk_at dksX6_ahead_3 4 rfl rfl)
theorem dX6_ahead_78 : decode cX6_ahead 78 = .ok (.ifCond .eq 38, 3) := dk_153 0 38 (dk_at dksX6_ahead_3 7 rfl rfl)
theorem dX6_ahead_81 : decode cX6_ahead 81 = .ok (.aload_n 0, 1) := dk_42 (dk_at dksX6_ahead_3 10 rfl rfl)
theorem dX6_ahead_82 : decode cX6_ahead 82 = .ok (.aload_n 0, 1) := dk_42 (dk_at dksX6_ahead_3 11 rfl rfl)
theorem dX6_ahead_83 : decode cX6_ahead 83 = .ok (.getfield 108, 3) := dk_180 0 108 (dk_at dksX6_ahead_3 12 rfl rfl)
theorem dX6_ahead_86 : decode cX6_ahead 86 = .ok (.invokevirtual 111, 3) := dk_182 0 111 (dk_at dksX6_ahead_3 15 rfl rfl)
theorem dX6_ahead_89 : decode cX6_ahead 89 = .ok (.invokestatic 123, 3) := dk_184 0 123 (dk_at dksX6_ahead_3 18 rfl rfl)
theorem dX6_ahead_92 : decode cX6_ahead 92 = .ok (.ifCond .eq 16, 3) := dk_153 0 16 (dk_at dksX6_ahead_3 21 rfl rfl)
theorem dX6_ahead_95 : decode cX6_ahead 95 = .ok (.aload_n 0, 1) := dk_42 (dk_at dksX6_ahead_4 0 rfl rfl)
theorem dX6_ahead_96 : decode cX6_ahead 96 = .ok (.dup, 1) := dk_89 (dk_at dksX6_ahead_4 1 rfl rfl)
theorem dX6_ahead_97 : decode cX6_ahead 97 = .ok (.getfield 108, 3) := dk_180 0 108 (dk_at dksX6_ahead_4 2 rfl rfl)
theorem dX6_ahead_100 : decode cX6_ahead 100 = .ok (.iconst 1, 1) := dk_4 (dk_at dksX6_ahead_4 5 rfl rfl)
theorem dX6_ahead_101 : decode cX6_ahead 101 = .ok (.iadd, 1) := dk_96 (dk_at dksX6_ahead_4 6 rfl rfl)
theorem dX6_ahead_102 : decode cX6_ahead 102 = .ok (.putfield 108, 3) := dk_181 0 108 (dk_at dksX6_ahead_4 7 rfl rfl)
theorem dX6_ahead_105 : decode cX6_ahead 105 = .ok (.goto (-24), 3) := dk_167 255 232 (dk_at dksX6_ahead_4 10 rfl rfl)
theorem dX6_ahead_108 : decode cX6_ahead 108 = .ok (.aload_n 0, 1) := dk_42 (dk_at dksX6_ahead_4 13 rfl rfl)
theorem dX6_ahead_109 : decode cX6_ahead 109 = .ok (.iconst 2, 1) := dk_5 (dk_at dksX6_ahead_4 14 rfl rfl)
theorem dX6_ahead_110 : decode cX6_ahead 110 = .ok (.putfield 120, 3) := dk_181 0 120 (dk_at dksX6_ahead_4 15 rfl rfl)
theorem dX6_ahead_113 : decode cX6_ahead 113 = .ok (.goto 138, 3) := dk_167 0 138 (dk_at dksX6_ahead_4 18 rfl rfl)
theorem dX6_ahead_116 : decode cX6_ahead 116 = .ok (.iload_n 1, 1) := dk_27 (dk_at dksX6_ahead_4 21 rfl rfl)
theorem dX6_ahead_117 : decode cX6_ahead 117 = .ok (.invokestatic 126, 3) := dk_184 0 126 (dk_at dksX6_ahead_5 0 rfl rfl)
theorem dX6_ahead_120 : decode cX6_ahead 120 = .ok (.ifCond .eq 88, 3) := dk_153 0 88 (dk_at dksX6_ahead_5 3 rfl rfl)
theorem dX6_ahead_123 : decode cX6_ahead 123 = .ok (.aload_n 0, 1) := dk_42 (dk_at dksX6_ahead_5 6 rfl rfl)
theorem dX6_ahead_124 : decode cX6_ahead 124 = .ok (.iconst 0, 1) := dk_3 (dk_at dksX6_ahead_5 7 rfl rfl)
theorem dX6_ahead_125 : decode cX6_ahead 125 = .ok (.putfield 117, 3) := dk_181 0 117 (dk_at dksX6_ahead_5 8 rfl rfl)
theorem dX6_ahead_128 : decode cX6_ahead 128 = .ok (.aload_n 0, 1) := dk_42 (dk_at dksX6_ahead_5 11 rfl rfl)
theorem dX6_ahead_129 : decode cX6_ahead 129 = .ok (.aload_n 0, 1) := dk_42 (dk_at dksX6_ahead_5 12 rfl rfl)
theorem dX6_ahead_130 : decode cX6_ahead 130 = .ok (.getfield 108, 3) := dk_180 0 108 (dk_at dksX6_ahead_5 13 rfl rfl)
theorem dX6_ahead_133 : decode cX6_ahead 133 = .ok (.invokevirtual 111, 3) := dk_182 0 111 (dk_at dksX6_ahead_5 16 rfl rfl)
theorem dX6_ahead_136 : decode cX6_ahead 136 = .ok (.invokestatic 126, 3) := dk_184 0 126 (dk_at dksX6_ahead_5 19 rfl rfl)
theorem dX6_ahead_139 : decode cX6_ahead 139 = .ok (.ifCond .eq 44, 3) := dk_153 0 44 (dk_at dksX6_ahead_6 0 rfl rfl)
theorem dX6_ahead_142 : decode cX6_ahead 142 = .ok (.aload_n 0, 1) := dk_42 (dk_at dksX6_ahead_6 3 rfl rfl)
theorem dX6_ahead_143 : decode cX6_ahead 143 = .ok (.ldc 129, 2) := dk_18 129 (dk_at dksX6_ahead_6 4 rfl rfl)
theorem dX6_ahead_145 : decode cX6_ahead 145 = .ok (.bipush 10, 2) := dk_16 10 (dk_at dksX6_ahead_6 6 rfl rfl)
theorem dX6_ahead_147 : decode cX6_ahead 147 = .ok (.aload_n 0, 1) := dk_42 (dk_at dksX6_ahead_6 8 rfl rfl)
theorem dX6_ahead_148 : decode cX6_ahead 148 = .ok (.getfield 117, 3) := dk_180 0 117 (dk_at dksX6_ahead_6 9 rfl rfl)
theorem dX6_ahead_151 : decode cX6_ahead 151 = .ok (.imul, 1) := dk_104 (dk_at dksX6_ahead_6 12 rfl rfl)
theorem dX6_ahead_152 : decode cX6_ahead 152 = .ok (.aload_n 0, 1) := dk_42 (dk_at dksX6_ahead_6 13 rfl rfl)
theorem dX6_ahead_153 : decode cX6_ahead 153 = .ok (.aload_n 0, 1) := dk_42 (dk_at dksX6_ahead_6 14 rfl rfl)
theorem dX6_ahead_154 : decode cX6_ahead 154 = .ok (.getfield 108, 3) := dk_180 0 108 (dk_at dksX6_ahead_6 15 rfl rfl)
theorem dX6_ahead_157 : decode cX6_ahead 157 = .ok (.invokevirtual 111, 3) := dk_182 0 111 (dk_at dksX6_ahead_6 18 rfl rfl)
theorem dX6_ahead_160 : decode cX6_ahead 160 = .ok (.iadd, 1) := dk_96 (dk_at dksX6_ahead_6 21 rfl rfl)
theorem dX6_ahead_161 : decode cX6_ahead 161 = .ok (.bipush 48, 2) := dk_16 48 (dk_at dksX6_ahead_6 22 rfl rfl)
theorem dX6_ahead_163 : decode cX6_ahead 163 = .ok (.isub, 1) := dk_100 (dk_at dksX6_ahead_7 0 rfl rfl)
theorem dX6_ahead_164 : decode cX6_ahead 164 = .ok (.invokestatic 130, 3) := dk_184 0 130 (dk_at dksX6_ahead_7 1 rfl rfl)
theorem dX6_ahead_167 : decode cX6_ahead 167 = .ok (.putfield 117, 3) := dk_181 0 117 (dk_at dksX6_ahead_7 4 rfl rfl)
theorem dX6_ahead_170 : decode cX6_ahead 170 = .ok (.aload_n 0, 1) := dk_42 (dk_at dksX6_ahead_7 7 rfl rfl)
theorem dX6_ahead_171 : decode cX6_ahead 171 = .ok (.dup, 1) := dk_89 (dk_at dksX6_ahead_7 8 rfl rfl)
theorem dX6_ahead_172 : decode cX6_ahead 172 = .ok (.getfield 108, 3) := dk_180 0 108 (dk_at dksX6_ahead_7 9 rfl rfl)
theorem dX6_ahead_175 : decode cX6_ahead 175 = .ok (.iconst 1, 1) := dk_4 (dk_at dksX6_ahead_7 12 rfl rfl)
theorem dX6_ahead_176 : decode cX6_ahead 176 = .ok (.iadd, 1) := dk_96 (dk_at dksX6_ahead_7 13 rfl rfl)
theorem dX6_ahead_177 : decode cX6_ahead 177 = .ok (.putfield 108, 3) := dk_181 0 108 (dk_at dksX6_ahead_7 14 rfl rfl)
theorem dX6_ahead_180 : decode cX6_ahead 180 = .ok (.goto (-52), 3) := dk_167 255 204 (dk_at dksX6_ahead_7 17 rfl rfl)
theorem dX6_ahead_183 : decode cX6_ahead 183 = .ok (.aload_n 0, 1) := dk_42 (dk_at dksX6_ahead_7 20 rfl rfl)
theorem dX6_ahead_184 : decode cX6_ahead 184 = .ok (.aload_n 0, 1) := dk_42 (dk_at dksX6_ahead_7 21 rfl rfl)
theorem dX6_ahead_185 : decode cX6_ahead 185 = .ok (.getfield 108, 3) := dk_180 0 108 (dk_at dksX6_ahead_8 0 rfl rfl)
theorem dX6_ahead_188 : decode cX6_ahead 188 = .ok (.aload_n 0, 1) := dk_42 (dk_at dksX6_ahead_8 3 rfl rfl)
theorem dX6_ahead_189 : decode cX6_ahead 189 = .ok (.getfield 114, 3) := dk_180 0 114 (dk_at dksX6_ahead_8 4 rfl rfl)
theorem dX6_ahead_192 : decode cX6_ahead 192 = .ok (.isub, 1) := dk_100 (dk_at dksX6_ahead_8 7 rfl rfl)
theorem dX6_ahead_193 : decode cX6_ahead 193 = .ok (.iconst 4, 1) := dk_7 (dk_at dksX6_ahead_8 8 rfl rfl)
theorem dX6_ahead_194 : decode cX6_ahead 194 = .ok (.if_icmp .le 7, 3) := dk_164 0 7 (dk_at dksX6_ahead_8 9 rfl rfl)
theorem dX6_ahead_197 : decode cX6_ahead 197 = .ok (.iconst 1, 1) := dk_4 (dk_at dksX6_ahead_8 12 rfl rfl)
theorem dX6_ahead_198 : decode cX6_ahead 198 = .ok (.goto 4, 3) := dk_167 0 4 (dk_at dksX6_ahead_8 13 rfl rfl)
theorem dX6_ahead_201 : decode cX6_ahead 201 = .ok (.iconst 3, 1) := dk_6 (dk_at dksX6_ahead_8 16 rfl rfl)
theorem dX6_ahead_202 : decode cX6_ahead 202 = .ok (.putfield 120, 3) := dk_181 0 120 (dk_at dksX6_ahead_8 17 rfl rfl)
theorem dX6_ahead_205 : decode cX6_ahead 205 = .ok (.goto 46, 3) := dk_167 0 46 (dk_at dksX6_ahead_8 20 rfl rfl)
theorem dX6_ahead_208 : decode cX6_ahead 208 = .ok (.aload_n 0, 1) := dk_42 (dk_at dksX6_ahead_8 23 rfl rfl)
theorem dX6_ahead_209 : decode cX6_ahead 209 = .ok (.dup, 1) := dk_89 (dk_at dksX6_ahead_9 0 rfl rfl)
theorem dX6_ahead_210 : decode cX6_ahead 210 = .ok (.getfield 108, 3) := dk_180 0 108 (dk_at dksX6_ahead_9 1 rfl rfl)
theorem dX6_ahead_213 : decode cX6_ahead 213 = .ok (.iconst 1, 1) := dk_4 (dk_at dksX6_ahead_9 4 rfl rfl)
theorem dX6_ahead_214 : decode cX6_ahead 214 = .ok (.iadd, 1) := dk_96 (dk_at dksX6_ahead_9 5 rfl rfl)
theorem dX6_ahead_215 : decode cX6_ahead 215 = .ok (.putfield 108, 3) := dk_181 0 108 (dk_at dksX6_ahead_9 6 rfl rfl)
theorem dX6_ahead_218 : decode cX6_ahead 218 = .ok (.aload_n 0, 1) := dk_42 (dk_at dksX6_ahead_9 9 rfl rfl)
theorem dX6_ahead_219 : decode cX6_ahead 219 = .ok (.iload_n 1, 1) := dk_27 (dk_at dksX6_ahead_9 10 rfl rfl)
theorem dX6_ahead_220 : decode cX6_ahead 220 = .ok (.bipush 59, 2) := dk_16 59 (dk_at dksX6_ahead_9 11 rfl rfl)
theorem dX6_ahead_222 : decode cX6_ahead 222 = .ok (.if_icmp .eq 21, 3) := dk_159 0 21 (dk_at dksX6_ahead_9 13 rfl rfl)
theorem dX6_ahead_225 : decode cX6_ahead 225 = .ok (.iload_n 1, 1) := dk_27 (dk_at dksX6_ahead_9 16 rfl rfl)
theorem dX6_ahead_226 : decode cX6_ahead 226 = .ok (.bipush 60, 2) := dk_16 60 (dk_at dksX6_ahead_9 17 rfl rfl)
theorem dX6_ahead_228 : decode cX6_ahead 228 = .ok (.if_icmp .eq 15, 3) := dk_159 0 15 (dk_at dksX6_ahead_9 19 rfl rfl)
theorem dX6_ahead_231 : decode cX6_ahead 231 = .ok (.iload_n 1, 1) := dk_27 (dk_at dksX6_ahead_9 22 rfl rfl)
theorem dX6_ahead_232 : decode cX6_ahead 232 = .ok (.bipush 62, 2) := dk_16 62 (dk_at dksX6_ahead_10 0 rfl rfl)
theorem dX6_ahead_234 : decode cX6_ahead 234 = .ok (.if_icmp .eq 9, 3) := dk_159 0 9 (dk_at dksX6_ahead_10 2 rfl rfl)
theorem dX6_ahead_237 : decode cX6_ahead 237 = .ok (.iload_n 1, 1) := dk_27 (dk_at dksX6_ahead_10 5 rfl rfl)
theorem dX6_ahead_238 : decode cX6_ahead 238 = .ok (.bipush 61, 2) := dk_16 61 (dk_at dksX6_ahead_10 6 rfl rfl)
theorem dX6_ahead_240 : decode cX6_ahead 240 = .ok (.if_icmp .ne 7, 3) := dk_160 0 7 (dk_at dksX6_ahead_10 8 rfl rfl)
theorem dX6_ahead_243 : decode cX6_ahead 243 = .ok (.iconst 4, 1) := dk_7 (dk_at dksX6_ahead_10 11 rfl rfl)
theorem dX6_ahead_244 : decode cX6_ahead 244 = .ok (.goto 4, 3) := dk_167 0 4 (dk_at dksX6_ahead_10 12 rfl rfl)
theorem dX6_ahead_247 : decode cX6_ahead 247 = .ok (.iconst 1, 1) := dk_4 (dk_at dksX6_ahead_10 15 rfl rfl)
theorem dX6_ahead_248 : decode cX6_ahead 248 = .ok (.putfield 120, 3) := dk_181 0 120 (dk_at dksX6_ahead_10 16 rfl rfl)
theorem dX6_ahead_251 : decode cX6_ahead 251 = .ok (.return_, 1) := dk_177 (dk_at dksX6_ahead_10 19 rfl rfl)
abbrev cX6_byteAt : ByteArray := prog_16_method_21_code
def yX6_byteAt : MethodName := ⟨RX6, "byteAt", "(I)I"⟩
def dkwX6_byteAt_0 : List UInt8 := [27, 42, 180, 0, 105, 162, 0, 16, 42, 180, 0, 34, 27, 51, 17, 0, 255, 126, 167, 0, 4, 2, 172]
abbrev dktX6_byteAt_0 : List UInt8 := dkwX6_byteAt_0 ++ []
theorem dksX6_byteAt_0 : cX6_byteAt.data.toList.drop 0 = dktX6_byteAt_0 := by decide +kernel
theorem dX6_byteAt_0 : decode cX6_byteAt 0 = .ok (.iload_n 1, 1) := dk_27 (dk_at dksX6_byteAt_0 0 rfl rfl)
theorem dX6_byteAt_1 : decode cX6_byteAt 1 = .ok (.aload_n 0, 1) := dk_42 (dk_at dksX6_byteAt_0 1 rfl rfl)
theorem dX6_byteAt_2 : decode cX6_byteAt 2 = .ok (.getfield 105, 3) := dk_180 0 105 (dk_at dksX6_byteAt_0 2 rfl rfl)
theorem dX6_byteAt_5 : decode cX6_byteAt 5 = .ok (.if_icmp .ge 16, 3) := dk_162 0 16 (dk_at dksX6_byteAt_0 5 rfl rfl)
theorem dX6_byteAt_8 : decode cX6_byteAt 8 = .ok (.aload_n 0, 1) := dk_42 (dk_at dksX6_byteAt_0 8 rfl rfl)
theorem dX6_byteAt_9 : decode cX6_byteAt 9 = .ok (.getfield 34, 3) := dk_180 0 34 (dk_at dksX6_byteAt_0 9 rfl rfl)
theorem dX6_byteAt_12 : decode cX6_byteAt 12 = .ok (.iload_n 1, 1) := dk_27 (dk_at dksX6_byteAt_0 12 rfl rfl)
theorem dX6_byteAt_13 : decode cX6_byteAt 13 = .ok (.baload, 1) := dk_51 (dk_at dksX6_byteAt_0 13 rfl rfl)
theorem dX6_byteAt_14 : decode cX6_byteAt 14 = .ok (.sipush 255, 3) := dk_17 0 255 (dk_at dksX6_byteAt_0 14 rfl rfl)
theorem dX6_byteAt_17 : decode cX6_byteAt 17 = .ok (.iand, 1) := dk_126 (dk_at dksX6_byteAt_0 17 rfl rfl)
theorem dX6_byteAt_18 : decode cX6_byteAt 18 = .ok (.goto 4, 3) := dk_167 0 4 (dk_at dksX6_byteAt_0 18 rfl rfl)
theorem dX6_byteAt_21 : decode cX6_byteAt 21 = .ok (.iconst (-1), 1) := dk_2 (dk_at dksX6_byteAt_0 21 rfl rfl)
theorem dX6_byteAt_22 : decode cX6_byteAt 22 = .ok (.ireturn, 1) := dk_172 (dk_at dksX6_byteAt_0 22 rfl rfl)
abbrev cX6_isSmall : ByteArray := prog_16_method_22_code
def yX6_isSmall : MethodName := ⟨RX6, "isSmall", "(I)Z"⟩
def dkwX6_isSmall_0 : List UInt8 := [26, 16, 97, 161, 0, 13, 26, 16, 122, 163, 0, 7, 4, 167, 0, 4, 3, 172]
abbrev dktX6_isSmall_0 : List UInt8 := dkwX6_isSmall_0 ++ []
theorem dksX6_isSmall_0 : cX6_isSmall.data.toList.drop 0 = dktX6_isSmall_0 := by decide +kernel
theorem dX6_isSmall_0 : decode cX6_isSmall 0 = .ok (.iload_n 0, 1) := dk_26 (dk_at dksX6_isSmall_0 0 rfl rfl)
theorem dX6_isSmall_1 : decode cX6_isSmall 1 = .ok (.bipush 97, 2) := dk_16 97 (dk_at dksX6_isSmall_0 1 rfl rfl)
theorem dX6_isSmall_3 : decode cX6_isSmall 3 = .ok (.if_icmp .lt 13, 3) := dk_161 0 13 (dk_at dksX6_isSmall_0 3 rfl rfl)
theorem dX6_isSmall_6 : decode cX6_isSmall 6 = .ok (.iload_n 0, 1) := dk_26 (dk_at dksX6_isSmall_0 6 rfl rfl)
theorem dX6_isSmall_7 : decode cX6_isSmall 7 = .ok (.bipush 122, 2) := dk_16 122 (dk_at dksX6_isSmall_0 7 rfl rfl)
theorem dX6_isSmall_9 : decode cX6_isSmall 9 = .ok (.if_icmp .gt 7, 3) := dk_163 0 7 (dk_at dksX6_isSmall_0 9 rfl rfl)
theorem dX6_isSmall_12 : decode cX6_isSmall 12 = .ok (.iconst 1, 1) := dk_4 (dk_at dksX6_isSmall_0 12 rfl rfl)
theorem dX6_isSmall_13 : decode cX6_isSmall 13 = .ok (.goto 4, 3) := dk_167 0 4 (dk_at dksX6_isSmall_0 13 rfl rfl)
theorem dX6_isSmall_16 : decode cX6_isSmall 16 = .ok (.iconst 0, 1) := dk_3 (dk_at dksX6_isSmall_0 16 rfl rfl)
theorem dX6_isSmall_17 : decode cX6_isSmall 17 = .ok (.ireturn, 1) := dk_172 (dk_at dksX6_isSmall_0 17 rfl rfl)
abbrev cX6_isDigit : ByteArray := prog_16_method_23_code
def yX6_isDigit : MethodName := ⟨RX6, "isDigit", "(I)Z"⟩
def dkwX6_isDigit_0 : List UInt8 := [26, 16, 48, 161, 0, 13, 26, 16, 57, 163, 0, 7, 4, 167, 0, 4, 3, 172]
abbrev dktX6_isDigit_0 : List UInt8 := dkwX6_isDigit_0 ++ []
theorem dksX6_isDigit_0 : cX6_isDigit.data.toList.drop 0 = dktX6_isDigit_0 := by decide +kernel
theorem dX6_isDigit_0 : decode cX6_isDigit 0 = .ok (.iload_n 0, 1) := dk_26 (dk_at dksX6_isDigit_0 0 rfl rfl)
theorem dX6_isDigit_1 : decode cX6_isDigit 1 = .ok (.bipush 48, 2) := dk_16 48 (dk_at dksX6_isDigit_0 1 rfl rfl)
theorem dX6_isDigit_3 : decode cX6_isDigit 3 = .ok (.if_icmp .lt 13, 3) := dk_161 0 13 (dk_at dksX6_isDigit_0 3 rfl rfl)
theorem dX6_isDigit_6 : decode cX6_isDigit 6 = .ok (.iload_n 0, 1) := dk_26 (dk_at dksX6_isDigit_0 6 rfl rfl)
theorem dX6_isDigit_7 : decode cX6_isDigit 7 = .ok (.bipush 57, 2) := dk_16 57 (dk_at dksX6_isDigit_0 7 rfl rfl)
theorem dX6_isDigit_9 : decode cX6_isDigit 9 = .ok (.if_icmp .gt 7, 3) := dk_163 0 7 (dk_at dksX6_isDigit_0 9 rfl rfl)
theorem dX6_isDigit_12 : decode cX6_isDigit 12 = .ok (.iconst 1, 1) := dk_4 (dk_at dksX6_isDigit_0 12 rfl rfl)
theorem dX6_isDigit_13 : decode cX6_isDigit 13 = .ok (.goto 4, 3) := dk_167 0 4 (dk_at dksX6_isDigit_0 13 rfl rfl)
theorem dX6_isDigit_16 : decode cX6_isDigit 16 = .ok (.iconst 0, 1) := dk_3 (dk_at dksX6_isDigit_0 16 rfl rfl)
theorem dX6_isDigit_17 : decode cX6_isDigit 17 = .ok (.ireturn, 1) := dk_172 (dk_at dksX6_isDigit_0 17 rfl rfl)
abbrev cX6_refuse : ByteArray := prog_16_method_7_code
def yX6_refuse : MethodName := ⟨RX6, "refuse", "(I)I"⟩
def dkwX6_refuse_0 : List UInt8 := [42, 27, 181, 0, 69, 2, 172]
abbrev dktX6_refuse_0 : List UInt8 := dkwX6_refuse_0 ++ []
theorem dksX6_refuse_0 : cX6_refuse.data.toList.drop 0 = dktX6_refuse_0 := by decide +kernel
theorem dX6_refuse_0 : decode cX6_refuse 0 = .ok (.aload_n 0, 1) := dk_42 (dk_at dksX6_refuse_0 0 rfl rfl)
theorem dX6_refuse_1 : decode cX6_refuse 1 = .ok (.iload_n 1, 1) := dk_27 (dk_at dksX6_refuse_0 1 rfl rfl)
theorem dX6_refuse_2 : decode cX6_refuse 2 = .ok (.putfield 69, 3) := dk_181 0 69 (dk_at dksX6_refuse_0 2 rfl rfl)
theorem dX6_refuse_5 : decode cX6_refuse 5 = .ok (.iconst (-1), 1) := dk_2 (dk_at dksX6_refuse_0 5 rfl rfl)
theorem dX6_refuse_6 : decode cX6_refuse 6 = .ok (.ireturn, 1) := dk_172 (dk_at dksX6_refuse_0 6 rfl rfl)
abbrev cX6_tablePart : ByteArray := prog_16_method_46_code
def yX6_tablePart : MethodName := ⟨RX6, "tablePart", "()Z"⟩
def dkwX6_tablePart_5 : List UInt8 := [167, 0, 4, 3, 172]
abbrev dktX6_tablePart_5 : List UInt8 := dkwX6_tablePart_5 ++ []
def dkwX6_tablePart_4 : List UInt8 := [167, 0, 9, 42, 5, 182, 0, 157, 172, 27, 153, 0, 16, 42, 16, 59, 182, 0, 214, 153, 0, 7, 4]
abbrev dktX6_tablePart_4 : List UInt8 := dkwX6_tablePart_4 ++ dktX6_tablePart_5
def dkwX6_tablePart_3 : List UInt8 := [42, 182, 0, 208, 60, 167, 0, 27, 42, 7, 182, 0, 211, 60, 167, 0, 18, 42, 8, 182, 0, 211, 60]
abbrev dktX6_tablePart_3 : List UInt8 := dkwX6_tablePart_3 ++ dktX6_tablePart_4
def dkwX6_tablePart_2 : List UInt8 := [42, 182, 0, 198, 60, 167, 0, 51, 42, 182, 0, 202, 60, 167, 0, 43, 42, 182, 0, 205, 60, 167, 0, 35]
abbrev dktX6_tablePart_2 : List UInt8 := dkwX6_tablePart_2 ++ dktX6_tablePart_3
def dkwX6_tablePart_1 : List UInt8 := [170, 0, 0, 0, 0, 88, 0, 0, 0, 0, 0, 0, 0, 5, 0, 0, 0, 38, 0, 0, 0, 46, 0, 0, 0, 54, 0, 0, 0, 62, 0, 0, 0, 70, 0, 0, 0, 79]
abbrev dktX6_tablePart_1 : List UInt8 := dkwX6_tablePart_1 ++ dktX6_tablePart_2
def dkwX6_tablePart_0 : List UInt8 := [42, 18, 168, 182, 0, 160]
abbrev dktX6_tablePart_0 : List UInt8 := dkwX6_tablePart_0 ++ dktX6_tablePart_1
theorem dksX6_tablePart_0 : cX6_tablePart.data.toList.drop 0 = dktX6_tablePart_0 := by decide +kernel
theorem dksX6_tablePart_1 : cX6_tablePart.data.toList.drop 6 = dktX6_tablePart_1 := dk_seg dksX6_tablePart_0 6 rfl rfl
theorem dksX6_tablePart_2 : cX6_tablePart.data.toList.drop 44 = dktX6_tablePart_2 := dk_seg dksX6_tablePart_1 38 rfl rfl
theorem dksX6_tablePart_3 : cX6_tablePart.data.toList.drop 68 = dktX6_tablePart_3 := dk_seg dksX6_tablePart_2 24 rfl rfl
theorem dksX6_tablePart_4 : cX6_tablePart.data.toList.drop 91 = dktX6_tablePart_4 := dk_seg dksX6_tablePart_3 23 rfl rfl
theorem dksX6_tablePart_5 : cX6_tablePart.data.toList.drop 114 = dktX6_tablePart_5 := dk_seg dksX6_tablePart_4 23 rfl rfl
theorem dX6_tablePart_0 : decode cX6_tablePart 0 = .ok (.aload_n 0, 1) := dk_42 (dk_at dksX6_tablePart_0 0 rfl rfl)
theorem dX6_tablePart_1 : decode cX6_tablePart 1 = .ok (.ldc 168, 2) := dk_18 168 (dk_at dksX6_tablePart_0 1 rfl rfl)
theorem dX6_tablePart_3 : decode cX6_tablePart 3 = .ok (.invokevirtual 160, 3) := dk_182 0 160 (dk_at dksX6_tablePart_0 3 rfl rfl)
theorem dX6_tablePart_6 : decode cX6_tablePart 6 = .ok (.tableswitch 88 0 5 #[38, 46, 54, 62, 70, 79], 38) := by decide +kernel
theorem dX6_tablePart_44 : decode cX6_tablePart 44 = .ok (.aload_n 0, 1) := dk_42 (dk_at dksX6_tablePart_2 0 rfl rfl)
theorem dX6_tablePart_45 : decode cX6_tablePart 45 = .ok (.invokevirtual 198, 3) := dk_182 0 198 (dk_at dksX6_tablePart_2 1 rfl rfl)
theorem dX6_tablePart_48 : decode cX6_tablePart 48 = .ok (.istore_n 1, 1) := dk_60 (dk_at dksX6_tablePart_2 4 rfl rfl)
theorem dX6_tablePart_49 : decode cX6_tablePart 49 = .ok (.goto 51, 3) := dk_167 0 51 (dk_at dksX6_tablePart_2 5 rfl rfl)
theorem dX6_tablePart_52 : decode cX6_tablePart 52 = .ok (.aload_n 0, 1) := dk_42 (dk_at dksX6_tablePart_2 8 rfl rfl)
theorem dX6_tablePart_53 : decode cX6_tablePart 53 = .ok (.invokevirtual 202, 3) := dk_182 0 202 (dk_at dksX6_tablePart_2 9 rfl rfl)
theorem dX6_tablePart_56 : decode cX6_tablePart 56 = .ok (.istore_n 1, 1) := dk_60 (dk_at dksX6_tablePart_2 12 rfl rfl)
theorem dX6_tablePart_57 : decode cX6_tablePart 57 = .ok (.goto 43, 3) := dk_167 0 43 (dk_at dksX6_tablePart_2 13 rfl rfl)
theorem dX6_tablePart_60 : decode cX6_tablePart 60 = .ok (.aload_n 0, 1) := dk_42 (dk_at dksX6_tablePart_2 16 rfl rfl)
theorem dX6_tablePart_61 : decode cX6_tablePart 61 = .ok (.invokevirtual 205, 3) := dk_182 0 205 (dk_at dksX6_tablePart_2 17 rfl rfl)
theorem dX6_tablePart_64 : decode cX6_tablePart 64 = .ok (.istore_n 1, 1) := dk_60 (dk_at dksX6_tablePart_2 20 rfl rfl)
theorem dX6_tablePart_65 : decode cX6_tablePart 65 = .ok (.goto 35, 3) := dk_167 0 35 (dk_at dksX6_tablePart_2 21 rfl rfl)
theorem dX6_tablePart_68 : decode cX6_tablePart 68 = .ok (.aload_n 0, 1) := dk_42 (dk_at dksX6_tablePart_3 0 rfl rfl)
theorem dX6_tablePart_69 : decode cX6_tablePart 69 = .ok (.invokevirtual 208, 3) := dk_182 0 208 (dk_at dksX6_tablePart_3 1 rfl rfl)
theorem dX6_tablePart_72 : decode cX6_tablePart 72 = .ok (.istore_n 1, 1) := dk_60 (dk_at dksX6_tablePart_3 4 rfl rfl)
theorem dX6_tablePart_73 : decode cX6_tablePart 73 = .ok (.goto 27, 3) := dk_167 0 27 (dk_at dksX6_tablePart_3 5 rfl rfl)
theorem dX6_tablePart_76 : decode cX6_tablePart 76 = .ok (.aload_n 0, 1) := dk_42 (dk_at dksX6_tablePart_3 8 rfl rfl)
theorem dX6_tablePart_77 : decode cX6_tablePart 77 = .ok (.iconst 4, 1) := dk_7 (dk_at dksX6_tablePart_3 9 rfl rfl)
theorem dX6_tablePart_78 : decode cX6_tablePart 78 = .ok (.invokevirtual 211, 3) := dk_182 0 211 (dk_at dksX6_tablePart_3 10 rfl rfl)
theorem dX6_tablePart_81 : decode cX6_tablePart 81 = .ok (.istore_n 1, 1) := dk_60 (dk_at dksX6_tablePart_3 13 rfl rfl)
theorem dX6_tablePart_82 : decode cX6_tablePart 82 = .ok (.goto 18, 3) := dk_167 0 18 (dk_at dksX6_tablePart_3 14 rfl rfl)
theorem dX6_tablePart_85 : decode cX6_tablePart 85 = .ok (.aload_n 0, 1) := dk_42 (dk_at dksX6_tablePart_3 17 rfl rfl)
theorem dX6_tablePart_86 : decode cX6_tablePart 86 = .ok (.iconst 5, 1) := dk_8 (dk_at dksX6_tablePart_3 18 rfl rfl)
theorem dX6_tablePart_87 : decode cX6_tablePart 87 = .ok (.invokevirtual 211, 3) := dk_182 0 211 (dk_at dksX6_tablePart_3 19 rfl rfl)
theorem dX6_tablePart_90 : decode cX6_tablePart 90 = .ok (.istore_n 1, 1) := dk_60 (dk_at dksX6_tablePart_3 22 rfl rfl)
theorem dX6_tablePart_91 : decode cX6_tablePart 91 = .ok (.goto 9, 3) := dk_167 0 9 (dk_at dksX6_tablePart_4 0 rfl rfl)
theorem dX6_tablePart_94 : decode cX6_tablePart 94 = .ok (.aload_n 0, 1) := dk_42 (dk_at dksX6_tablePart_4 3 rfl rfl)
theorem dX6_tablePart_95 : decode cX6_tablePart 95 = .ok (.iconst 2, 1) := dk_5 (dk_at dksX6_tablePart_4 4 rfl rfl)
theorem dX6_tablePart_96 : decode cX6_tablePart 96 = .ok (.invokevirtual 157, 3) := dk_182 0 157 (dk_at dksX6_tablePart_4 5 rfl rfl)
theorem dX6_tablePart_99 : decode cX6_tablePart 99 = .ok (.ireturn, 1) := dk_172 (dk_at dksX6_tablePart_4 8 rfl rfl)
theorem dX6_tablePart_100 : decode cX6_tablePart 100 = .ok (.iload_n 1, 1) := dk_27 (dk_at dksX6_tablePart_4 9 rfl rfl)
theorem dX6_tablePart_101 : decode cX6_tablePart 101 = .ok (.ifCond .eq 16, 3) := dk_153 0 16 (dk_at dksX6_tablePart_4 10 rfl rfl)
theorem dX6_tablePart_104 : decode cX6_tablePart 104 = .ok (.aload_n 0, 1) := dk_42 (dk_at dksX6_tablePart_4 13 rfl rfl)
theorem dX6_tablePart_105 : decode cX6_tablePart 105 = .ok (.bipush 59, 2) := dk_16 59 (dk_at dksX6_tablePart_4 14 rfl rfl)
theorem dX6_tablePart_107 : decode cX6_tablePart 107 = .ok (.invokevirtual 214, 3) := dk_182 0 214 (dk_at dksX6_tablePart_4 16 rfl rfl)
theorem dX6_tablePart_110 : decode cX6_tablePart 110 = .ok (.ifCond .eq 7, 3) := dk_153 0 7 (dk_at dksX6_tablePart_4 19 rfl rfl)
theorem dX6_tablePart_113 : decode cX6_tablePart 113 = .ok (.iconst 1, 1) := dk_4 (dk_at dksX6_tablePart_4 22 rfl rfl)
theorem dX6_tablePart_114 : decode cX6_tablePart 114 = .ok (.goto 4, 3) := dk_167 0 4 (dk_at dksX6_tablePart_5 0 rfl rfl)
theorem dX6_tablePart_117 : decode cX6_tablePart 117 = .ok (.iconst 0, 1) := dk_3 (dk_at dksX6_tablePart_5 3 rfl rfl)
theorem dX6_tablePart_118 : decode cX6_tablePart 118 = .ok (.ireturn, 1) := dk_172 (dk_at dksX6_tablePart_5 4 rfl rfl)
abbrev cX6_inWords : ByteArray := prog_16_method_26_code
def yX6_inWords : MethodName := ⟨RX6, "inWords", "(Ljava/lang/String;)I"⟩
def dkwX6_inWords_5 : List UInt8 := [153, 0, 5, 28, 172, 132, 2, 1, 21, 4, 4, 96, 62, 167, 255, 140, 2, 172]
abbrev dktX6_inWords_5 : List UInt8 := dkwX6_inWords_5 ++ []
def dkwX6_inWords_4 : List UInt8 := [29, 100, 182, 0, 111, 160, 0, 7, 4, 167, 0, 4, 3, 54, 5, 132, 6, 1, 167, 255, 212, 21, 5]
abbrev dktX6_inWords_4 : List UInt8 := dkwX6_inWords_4 ++ dktX6_inWords_5
def dkwX6_inWords_3 : List UInt8 := [21, 4, 162, 0, 43, 21, 5, 153, 0, 38, 43, 21, 6, 182, 0, 141, 42, 42, 180, 0, 114, 21, 6, 96]
abbrev dktX6_inWords_3 : List UInt8 := dkwX6_inWords_3 ++ dktX6_inWords_4
def dkwX6_inWords_2 : List UInt8 := [180, 0, 108, 42, 180, 0, 114, 100, 160, 0, 7, 4, 167, 0, 4, 3, 54, 5, 29, 54, 6, 21, 6]
abbrev dktX6_inWords_2 : List UInt8 := dkwX6_inWords_2 ++ dktX6_inWords_3
def dkwX6_inWords_1 : List UInt8 := [54, 4, 43, 21, 4, 182, 0, 141, 16, 32, 159, 0, 9, 132, 4, 1, 167, 255, 242, 21, 4, 29, 100, 42]
abbrev dktX6_inWords_1 : List UInt8 := dkwX6_inWords_1 ++ dktX6_inWords_2
def dkwX6_inWords_0 : List UInt8 := [42, 180, 0, 120, 5, 159, 0, 5, 2, 172, 3, 61, 4, 62, 29, 43, 182, 0, 135, 162, 0, 114, 29]
abbrev dktX6_inWords_0 : List UInt8 := dkwX6_inWords_0 ++ dktX6_inWords_1
theorem dksX6_inWords_0 : cX6_inWords.data.toList.drop 0 = dktX6_inWords_0 := by decide +kernel
theorem dksX6_inWords_1 : cX6_inWords.data.toList.drop 23 = dktX6_inWords_1 := dk_seg dksX6_inWords_0 23 rfl rfl
theorem dksX6_inWords_2 : cX6_inWords.data.toList.drop 47 = dktX6_inWords_2 := dk_seg dksX6_inWords_1 24 rfl rfl
theorem dksX6_inWords_3 : cX6_inWords.data.toList.drop 70 = dktX6_inWords_3 := dk_seg dksX6_inWords_2 23 rfl rfl
theorem dksX6_inWords_4 : cX6_inWords.data.toList.drop 94 = dktX6_inWords_4 := dk_seg dksX6_inWords_3 24 rfl rfl
theorem dksX6_inWords_5 : cX6_inWords.data.toList.drop 117 = dktX6_inWords_5 := dk_seg dksX6_inWords_4 23 rfl rfl
theorem dX6_inWords_0 : decode cX6_inWords 0 = .ok (.aload_n 0, 1) := dk_42 (dk_at dksX6_inWords_0 0 rfl rfl)
theorem dX6_inWords_1 : decode cX6_inWords 1 = .ok (.getfield 120, 3) := dk_180 0 120 (dk_at dksX6_inWords_0 1 rfl rfl)
theorem dX6_inWords_4 : decode cX6_inWords 4 = .ok (.iconst 2, 1) := dk_5 (dk_at dksX6_inWords_0 4 rfl rfl)
theorem dX6_inWords_5 : decode cX6_inWords 5 = .ok (.if_icmp .eq 5, 3) := dk_159 0 5 (dk_at dksX6_inWords_0 5 rfl rfl)
theorem dX6_inWords_8 : decode cX6_inWords 8 = .ok (.iconst (-1), 1) := dk_2 (dk_at dksX6_inWords_0 8 rfl rfl)
theorem dX6_inWords_9 : decode cX6_inWords 9 = .ok (.ireturn, 1) := dk_172 (dk_at dksX6_inWords_0 9 rfl rfl)
theorem dX6_inWords_10 : decode cX6_inWords 10 = .ok (.iconst 0, 1) := dk_3 (dk_at dksX6_inWords_0 10 rfl rfl)
theorem dX6_inWords_11 : decode cX6_inWords 11 = .ok (.istore_n 2, 1) := dk_61 (dk_at dksX6_inWords_0 11 rfl rfl)
theorem dX6_inWords_12 : decode cX6_inWords 12 = .ok (.iconst 1, 1) := dk_4 (dk_at dksX6_inWords_0 12 rfl rfl)
theorem dX6_inWords_13 : decode cX6_inWords 13 = .ok (.istore_n 3, 1) := dk_62 (dk_at dksX6_inWords_0 13 rfl rfl)
theorem dX6_inWords_14 : decode cX6_inWords 14 = .ok (.iload_n 3, 1) := dk_29 (dk_at dksX6_inWords_0 14 rfl rfl)
theorem dX6_inWords_15 : decode cX6_inWords 15 = .ok (.aload_n 1, 1) := dk_43 (dk_at dksX6_inWords_0 15 rfl rfl)
theorem dX6_inWords_16 : decode cX6_inWords 16 = .ok (.invokevirtual 135, 3) := dk_182 0 135 (dk_at dksX6_inWords_0 16 rfl rfl)
theorem dX6_inWords_19 : decode cX6_inWords 19 = .ok (.if_icmp .ge 114, 3) := dk_162 0 114 (dk_at dksX6_inWords_0 19 rfl rfl)
theorem dX6_inWords_22 : decode cX6_inWords 22 = .ok (.iload_n 3, 1) := dk_29 (dk_at dksX6_inWords_0 22 rfl rfl)
theorem dX6_inWords_23 : decode cX6_inWords 23 = .ok (.istore 4, 2) := dk_54 4 (dk_at dksX6_inWords_1 0 rfl rfl)
theorem dX6_inWords_25 : decode cX6_inWords 25 = .ok (.aload_n 1, 1) := dk_43 (dk_at dksX6_inWords_1 2 rfl rfl)
theorem dX6_inWords_26 : decode cX6_inWords 26 = .ok (.iload 4, 2) := dk_21 4 (dk_at dksX6_inWords_1 3 rfl rfl)
theorem dX6_inWords_28 : decode cX6_inWords 28 = .ok (.invokevirtual 141, 3) := dk_182 0 141 (dk_at dksX6_inWords_1 5 rfl rfl)
theorem dX6_inWords_31 : decode cX6_inWords 31 = .ok (.bipush 32, 2) := dk_16 32 (dk_at dksX6_inWords_1 8 rfl rfl)
theorem dX6_inWords_33 : decode cX6_inWords 33 = .ok (.if_icmp .eq 9, 3) := dk_159 0 9 (dk_at dksX6_inWords_1 10 rfl rfl)
theorem dX6_inWords_36 : decode cX6_inWords 36 = .ok (.iinc 4 1, 3) := dk_132 4 1 (dk_at dksX6_inWords_1 13 rfl rfl)
theorem dX6_inWords_39 : decode cX6_inWords 39 = .ok (.goto (-14), 3) := dk_167 255 242 (dk_at dksX6_inWords_1 16 rfl rfl)
theorem dX6_inWords_42 : decode cX6_inWords 42 = .ok (.iload 4, 2) := dk_21 4 (dk_at dksX6_inWords_1 19 rfl rfl)
theorem dX6_inWords_44 : decode cX6_inWords 44 = .ok (.iload_n 3, 1) := dk_29 (dk_at dksX6_inWords_1 21 rfl rfl)
theorem dX6_inWords_45 : decode cX6_inWords 45 = .ok (.isub, 1) := dk_100 (dk_at dksX6_inWords_1 22 rfl rfl)
theorem dX6_inWords_46 : decode cX6_inWords 46 = .ok (.aload_n 0, 1) := dk_42 (dk_at dksX6_inWords_1 23 rfl rfl)
theorem dX6_inWords_47 : decode cX6_inWords 47 = .ok (.getfield 108, 3) := dk_180 0 108 (dk_at dksX6_inWords_2 0 rfl rfl)
theorem dX6_inWords_50 : decode cX6_inWords 50 = .ok (.aload_n 0, 1) := dk_42 (dk_at dksX6_inWords_2 3 rfl rfl)
theorem dX6_inWords_51 : decode cX6_inWords 51 = .ok (.getfield 114, 3) := dk_180 0 114 (dk_at dksX6_inWords_2 4 rfl rfl)
theorem dX6_inWords_54 : decode cX6_inWords 54 = .ok (.isub, 1) := dk_100 (dk_at dksX6_inWords_2 7 rfl rfl)
theorem dX6_inWords_55 : decode cX6_inWords 55 = .ok (.if_icmp .ne 7, 3) := dk_160 0 7 (dk_at dksX6_inWords_2 8 rfl rfl)
theorem dX6_inWords_58 : decode cX6_inWords 58 = .ok (.iconst 1, 1) := dk_4 (dk_at dksX6_inWords_2 11 rfl rfl)
theorem dX6_inWords_59 : decode cX6_inWords 59 = .ok (.goto 4, 3) := dk_167 0 4 (dk_at dksX6_inWords_2 12 rfl rfl)
theorem dX6_inWords_62 : decode cX6_inWords 62 = .ok (.iconst 0, 1) := dk_3 (dk_at dksX6_inWords_2 15 rfl rfl)
theorem dX6_inWords_63 : decode cX6_inWords 63 = .ok (.istore 5, 2) := dk_54 5 (dk_at dksX6_inWords_2 16 rfl rfl)
theorem dX6_inWords_65 : decode cX6_inWords 65 = .ok (.iload_n 3, 1) := dk_29 (dk_at dksX6_inWords_2 18 rfl rfl)
theorem dX6_inWords_66 : decode cX6_inWords 66 = .ok (.istore 6, 2) := dk_54 6 (dk_at dksX6_inWords_2 19 rfl rfl)
theorem dX6_inWords_68 : decode cX6_inWords 68 = .ok (.iload 6, 2) := dk_21 6 (dk_at dksX6_inWords_2 21 rfl rfl)
theorem dX6_inWords_70 : decode cX6_inWords 70 = .ok (.iload 4, 2) := dk_21 4 (dk_at dksX6_inWords_3 0 rfl rfl)
theorem dX6_inWords_72 : decode cX6_inWords 72 = .ok (.if_icmp .ge 43, 3) := dk_162 0 43 (dk_at dksX6_inWords_3 2 rfl rfl)
theorem dX6_inWords_75 : decode cX6_inWords 75 = .ok (.iload 5, 2) := dk_21 5 (dk_at dksX6_inWords_3 5 rfl rfl)
theorem dX6_inWords_77 : decode cX6_inWords 77 = .ok (.ifCond .eq 38, 3) := dk_153 0 38 (dk_at dksX6_inWords_3 7 rfl rfl)
theorem dX6_inWords_80 : decode cX6_inWords 80 = .ok (.aload_n 1, 1) := dk_43 (dk_at dksX6_inWords_3 10 rfl rfl)
theorem dX6_inWords_81 : decode cX6_inWords 81 = .ok (.iload 6, 2) := dk_21 6 (dk_at dksX6_inWords_3 11 rfl rfl)
theorem dX6_inWords_83 : decode cX6_inWords 83 = .ok (.invokevirtual 141, 3) := dk_182 0 141 (dk_at dksX6_inWords_3 13 rfl rfl)
theorem dX6_inWords_86 : decode cX6_inWords 86 = .ok (.aload_n 0, 1) := dk_42 (dk_at dksX6_inWords_3 16 rfl rfl)
theorem dX6_inWords_87 : decode cX6_inWords 87 = .ok (.aload_n 0, 1) := dk_42 (dk_at dksX6_inWords_3 17 rfl rfl)
theorem dX6_inWords_88 : decode cX6_inWords 88 = .ok (.getfield 114, 3) := dk_180 0 114 (dk_at dksX6_inWords_3 18 rfl rfl)
theorem dX6_inWords_91 : decode cX6_inWords 91 = .ok (.iload 6, 2) := dk_21 6 (dk_at dksX6_inWords_3 21 rfl rfl)
theorem dX6_inWords_93 : decode cX6_inWords 93 = .ok (.iadd, 1) := dk_96 (dk_at dksX6_inWords_3 23 rfl rfl)
theorem dX6_inWords_94 : decode cX6_inWords 94 = .ok (.iload_n 3, 1) := dk_29 (dk_at dksX6_inWords_4 0 rfl rfl)
theorem dX6_inWords_95 : decode cX6_inWords 95 = .ok (.isub, 1) := dk_100 (dk_at dksX6_inWords_4 1 rfl rfl)
theorem dX6_inWords_96 : decode cX6_inWords 96 = .ok (.invokevirtual 111, 3) := dk_182 0 111 (dk_at dksX6_inWords_4 2 rfl rfl)
theorem dX6_inWords_99 : decode cX6_inWords 99 = .ok (.if_icmp .ne 7, 3) := dk_160 0 7 (dk_at dksX6_inWords_4 5 rfl rfl)
theorem dX6_inWords_102 : decode cX6_inWords 102 = .ok (.iconst 1, 1) := dk_4 (dk_at dksX6_inWords_4 8 rfl rfl)
theorem dX6_inWords_103 : decode cX6_inWords 103 = .ok (.goto 4, 3) := dk_167 0 4 (dk_at dksX6_inWords_4 9 rfl rfl)
theorem dX6_inWords_106 : decode cX6_inWords 106 = .ok (.iconst 0, 1) := dk_3 (dk_at dksX6_inWords_4 12 rfl rfl)
theorem dX6_inWords_107 : decode cX6_inWords 107 = .ok (.istore 5, 2) := dk_54 5 (dk_at dksX6_inWords_4 13 rfl rfl)
theorem dX6_inWords_109 : decode cX6_inWords 109 = .ok (.iinc 6 1, 3) := dk_132 6 1 (dk_at dksX6_inWords_4 15 rfl rfl)
theorem dX6_inWords_112 : decode cX6_inWords 112 = .ok (.goto (-44), 3) := dk_167 255 212 (dk_at dksX6_inWords_4 18 rfl rfl)
theorem dX6_inWords_115 : decode cX6_inWords 115 = .ok (.iload 5, 2) := dk_21 5 (dk_at dksX6_inWords_4 21 rfl rfl)
theorem dX6_inWords_117 : decode cX6_inWords 117 = .ok (.ifCond .eq 5, 3) := dk_153 0 5 (dk_at dksX6_inWords_5 0 rfl rfl)
theorem dX6_inWords_120 : decode cX6_inWords 120 = .ok (.iload_n 2, 1) := dk_28 (dk_at dksX6_inWords_5 3 rfl rfl)
theorem dX6_inWords_121 : decode cX6_inWords 121 = .ok (.ireturn, 1) := dk_172 (dk_at dksX6_inWords_5 4 rfl rfl)
theorem dX6_inWords_122 : decode cX6_inWords 122 = .ok (.iinc 2 1, 3) := dk_132 2 1 (dk_at dksX6_inWords_5 5 rfl rfl)
theorem dX6_inWords_125 : decode cX6_inWords 125 = .ok (.iload 4, 2) := dk_21 4 (dk_at dksX6_inWords_5 8 rfl rfl)
theorem dX6_inWords_127 : decode cX6_inWords 127 = .ok (.iconst 1, 1) := dk_4 (dk_at dksX6_inWords_5 10 rfl rfl)
theorem dX6_inWords_128 : decode cX6_inWords 128 = .ok (.iadd, 1) := dk_96 (dk_at dksX6_inWords_5 11 rfl rfl)
theorem dX6_inWords_129 : decode cX6_inWords 129 = .ok (.istore_n 3, 1) := dk_62 (dk_at dksX6_inWords_5 12 rfl rfl)
theorem dX6_inWords_130 : decode cX6_inWords 130 = .ok (.goto (-116), 3) := dk_167 255 140 (dk_at dksX6_inWords_5 13 rfl rfl)
theorem dX6_inWords_133 : decode cX6_inWords 133 = .ok (.iconst (-1), 1) := dk_2 (dk_at dksX6_inWords_5 16 rfl rfl)
theorem dX6_inWords_134 : decode cX6_inWords 134 = .ok (.ireturn, 1) := dk_172 (dk_at dksX6_inWords_5 17 rfl rfl)
abbrev cX6_aPerson : ByteArray := prog_16_method_40_code
def yX6_aPerson : MethodName := ⟨RX6, "aPerson", "()Z"⟩
def dkwX6_aPerson_10 : List UInt8 := [17, 7, 216, 92, 46, 4, 27, 120, 128, 79, 42, 180, 0, 7, 17, 7, 208, 92, 46, 4, 96, 79, 4, 172]
abbrev dktX6_aPerson_10 : List UInt8 := dkwX6_aPerson_10 ++ []
def dkwX6_aPerson_9 : List UInt8 := [182, 0, 181, 153, 0, 17, 42, 180, 0, 7, 17, 7, 215, 92, 46, 4, 27, 120, 128, 79, 42, 180, 0, 7]
abbrev dktX6_aPerson_9 : List UInt8 := dkwX6_aPerson_9 ++ dktX6_aPerson_10
def dkwX6_aPerson_8 : List UInt8 := [153, 0, 19, 42, 28, 6, 96, 3, 17, 3, 231, 182, 0, 184, 154, 0, 5, 3, 172, 42, 16, 10]
abbrev dktX6_aPerson_8 : List UInt8 := dkwX6_aPerson_8 ++ dktX6_aPerson_9
def dkwX6_aPerson_7 : List UInt8 := [153, 0, 16, 42, 28, 5, 96, 3, 16, 99, 182, 0, 184, 153, 0, 26, 42, 16, 9, 182, 0, 181]
abbrev dktX6_aPerson_7 : List UInt8 := dkwX6_aPerson_7 ++ dktX6_aPerson_8
def dkwX6_aPerson_6 : List UInt8 := [153, 0, 16, 42, 28, 4, 96, 3, 16, 20, 182, 0, 184, 153, 0, 48, 42, 16, 8, 182, 0, 181]
abbrev dktX6_aPerson_6 : List UInt8 := dkwX6_aPerson_6 ++ dktX6_aPerson_7
def dkwX6_aPerson_5 : List UInt8 := [182, 0, 181, 153, 0, 14, 42, 28, 3, 16, 16, 182, 0, 184, 153, 0, 70, 42, 16, 7, 182, 0, 181]
abbrev dktX6_aPerson_5 : List UInt8 := dkwX6_aPerson_5 ++ dktX6_aPerson_6
def dkwX6_aPerson_4 : List UInt8 := [79, 42, 180, 0, 7, 28, 6, 96, 17, 3, 231, 79, 42, 180, 0, 7, 28, 7, 96, 2, 79, 42, 16, 6]
abbrev dktX6_aPerson_4 : List UInt8 := dkwX6_aPerson_4 ++ dktX6_aPerson_5
def dkwX6_aPerson_3 : List UInt8 := [180, 0, 13, 16, 24, 27, 96, 42, 182, 0, 164, 80, 42, 182, 0, 151, 42, 180, 0, 7, 28, 4, 96, 4]
abbrev dktX6_aPerson_3 : List UInt8 := dkwX6_aPerson_3 ++ dktX6_aPerson_4
def dkwX6_aPerson_2 : List UInt8 := [182, 0, 157, 172, 42, 16, 24, 27, 182, 0, 174, 2, 159, 0, 9, 42, 6, 182, 0, 157, 172, 42]
abbrev dktX6_aPerson_2 : List UInt8 := dkwX6_aPerson_2 ++ dktX6_aPerson_3
def dkwX6_aPerson_1 : List UInt8 := [42, 16, 6, 182, 0, 157, 172, 42, 182, 0, 151, 42, 18, 168, 182, 0, 170, 154, 0, 9, 42, 5]
abbrev dktX6_aPerson_1 : List UInt8 := dkwX6_aPerson_1 ++ dktX6_aPerson_2
def dkwX6_aPerson_0 : List UInt8 := [42, 180, 0, 7, 17, 7, 208, 46, 60, 17, 7, 220, 16, 8, 27, 104, 96, 61, 27, 16, 6, 160, 0, 10]
abbrev dktX6_aPerson_0 : List UInt8 := dkwX6_aPerson_0 ++ dktX6_aPerson_1
theorem dksX6_aPerson_0 : cX6_aPerson.data.toList.drop 0 = dktX6_aPerson_0 := by decide +kernel
theorem dksX6_aPerson_1 : cX6_aPerson.data.toList.drop 24 = dktX6_aPerson_1 := dk_seg dksX6_aPerson_0 24 rfl rfl
theorem dksX6_aPerson_2 : cX6_aPerson.data.toList.drop 46 = dktX6_aPerson_2 := dk_seg dksX6_aPerson_1 22 rfl rfl
theorem dksX6_aPerson_3 : cX6_aPerson.data.toList.drop 68 = dktX6_aPerson_3 := dk_seg dksX6_aPerson_2 22 rfl rfl
theorem dksX6_aPerson_4 : cX6_aPerson.data.toList.drop 92 = dktX6_aPerson_4 := dk_seg dksX6_aPerson_3 24 rfl rfl
theorem dksX6_aPerson_5 : cX6_aPerson.data.toList.drop 116 = dktX6_aPerson_5 := dk_seg dksX6_aPerson_4 24 rfl rfl
theorem dksX6_aPerson_6 : cX6_aPerson.data.toList.drop 139 = dktX6_aPerson_6 := dk_seg dksX6_aPerson_5 23 rfl rfl
theorem dksX6_aPerson_7 : cX6_aPerson.data.toList.drop 161 = dktX6_aPerson_7 := dk_seg dksX6_aPerson_6 22 rfl rfl
theorem dksX6_aPerson_8 : cX6_aPerson.data.toList.drop 183 = dktX6_aPerson_8 := dk_seg dksX6_aPerson_7 22 rfl rfl
theorem dksX6_aPerson_9 : cX6_aPerson.data.toList.drop 205 = dktX6_aPerson_9 := dk_seg dksX6_aPerson_8 22 rfl rfl
theorem dksX6_aPerson_10 : cX6_aPerson.data.toList.drop 229 = dktX6_aPerson_10 := dk_seg dksX6_aPerson_9 24 rfl rfl
theorem dX6_aPerson_0 : decode cX6_aPerson 0 = .ok (.aload_n 0, 1) := dk_42 (dk_at dksX6_aPerson_0 0 rfl rfl)
theorem dX6_aPerson_1 : decode cX6_aPerson 1 = .ok (.getfield 7, 3) := dk_180 0 7 (dk_at dksX6_aPerson_0 1 rfl rfl)
theorem dX6_aPerson_4 : decode cX6_aPerson 4 = .ok (.sipush 2000, 3) := dk_17 7 208 (dk_at dksX6_aPerson_0 4 rfl rfl)
theorem dX6_aPerson_7 : decode cX6_aPerson 7 = .ok (.iaload, 1) := dk_46 (dk_at dksX6_aPerson_0 7 rfl rfl)
theorem dX6_aPerson_8 : decode cX6_aPerson 8 = .ok (.istore_n 1, 1) := dk_60 (dk_at dksX6_aPerson_0 8 rfl rfl)
theorem dX6_aPerson_9 : decode cX6_aPerson 9 = .ok (.sipush 2012, 3) := dk_17 7 220 (dk_at dksX6_aPerson_0 9 rfl rfl)
theorem dX6_aPerson_12 : decode cX6_aPerson 12 = .ok (.bipush 8, 2) := dk_16 8 (dk_at dksX6_aPerson_0 12 rfl rfl)
theorem dX6_aPerson_14 : decode cX6_aPerson 14 = .ok (.iload_n 1, 1) := dk_27 (dk_at dksX6_aPerson_0 14 rfl rfl)
theorem dX6_aPerson_15 : decode cX6_aPerson 15 = .ok (.imul, 1) := dk_104 (dk_at dksX6_aPerson_0 15 rfl rfl)
theorem dX6_aPerson_16 : decode cX6_aPerson 16 = .ok (.iadd, 1) := dk_96 (dk_at dksX6_aPerson_0 16 rfl rfl)
theorem dX6_aPerson_17 : decode cX6_aPerson 17 = .ok (.istore_n 2, 1) := dk_61 (dk_at dksX6_aPerson_0 17 rfl rfl)
theorem dX6_aPerson_18 : decode cX6_aPerson 18 = .ok (.iload_n 1, 1) := dk_27 (dk_at dksX6_aPerson_0 18 rfl rfl)
theorem dX6_aPerson_19 : decode cX6_aPerson 19 = .ok (.bipush 6, 2) := dk_16 6 (dk_at dksX6_aPerson_0 19 rfl rfl)
theorem dX6_aPerson_21 : decode cX6_aPerson 21 = .ok (.if_icmp .ne 10, 3) := dk_160 0 10 (dk_at dksX6_aPerson_0 21 rfl rfl)
theorem dX6_aPerson_24 : decode cX6_aPerson 24 = .ok (.aload_n 0, 1) := dk_42 (dk_at dksX6_aPerson_1 0 rfl rfl)
theorem dX6_aPerson_25 : decode cX6_aPerson 25 = .ok (.bipush 6, 2) := dk_16 6 (dk_at dksX6_aPerson_1 1 rfl rfl)
theorem dX6_aPerson_27 : decode cX6_aPerson 27 = .ok (.invokevirtual 157, 3) := dk_182 0 157 (dk_at dksX6_aPerson_1 3 rfl rfl)
theorem dX6_aPerson_30 : decode cX6_aPerson 30 = .ok (.ireturn, 1) := dk_172 (dk_at dksX6_aPerson_1 6 rfl rfl)
theorem dX6_aPerson_31 : decode cX6_aPerson 31 = .ok (.aload_n 0, 1) := dk_42 (dk_at dksX6_aPerson_1 7 rfl rfl)
theorem dX6_aPerson_32 : decode cX6_aPerson 32 = .ok (.invokevirtual 151, 3) := dk_182 0 151 (dk_at dksX6_aPerson_1 8 rfl rfl)
theorem dX6_aPerson_35 : decode cX6_aPerson 35 = .ok (.aload_n 0, 1) := dk_42 (dk_at dksX6_aPerson_1 11 rfl rfl)
theorem dX6_aPerson_36 : decode cX6_aPerson 36 = .ok (.ldc 168, 2) := dk_18 168 (dk_at dksX6_aPerson_1 12 rfl rfl)
theorem dX6_aPerson_38 : decode cX6_aPerson 38 = .ok (.invokevirtual 170, 3) := dk_182 0 170 (dk_at dksX6_aPerson_1 14 rfl rfl)
theorem dX6_aPerson_41 : decode cX6_aPerson 41 = .ok (.ifCond .ne 9, 3) := dk_154 0 9 (dk_at dksX6_aPerson_1 17 rfl rfl)
theorem dX6_aPerson_44 : decode cX6_aPerson 44 = .ok (.aload_n 0, 1) := dk_42 (dk_at dksX6_aPerson_1 20 rfl rfl)
theorem dX6_aPerson_45 : decode cX6_aPerson 45 = .ok (.iconst 2, 1) := dk_5 (dk_at dksX6_aPerson_1 21 rfl rfl)
theorem dX6_aPerson_46 : decode cX6_aPerson 46 = .ok (.invokevirtual 157, 3) := dk_182 0 157 (dk_at dksX6_aPerson_2 0 rfl rfl)
theorem dX6_aPerson_49 : decode cX6_aPerson 49 = .ok (.ireturn, 1) := dk_172 (dk_at dksX6_aPerson_2 3 rfl rfl)
theorem dX6_aPerson_50 : decode cX6_aPerson 50 = .ok (.aload_n 0, 1) := dk_42 (dk_at dksX6_aPerson_2 4 rfl rfl)
theorem dX6_aPerson_51 : decode cX6_aPerson 51 = .ok (.bipush 24, 2) := dk_16 24 (dk_at dksX6_aPerson_2 5 rfl rfl)
theorem dX6_aPerson_53 : decode cX6_aPerson 53 = .ok (.iload_n 1, 1) := dk_27 (dk_at dksX6_aPerson_2 7 rfl rfl)
theorem dX6_aPerson_54 : decode cX6_aPerson 54 = .ok (.invokevirtual 174, 3) := dk_182 0 174 (dk_at dksX6_aPerson_2 8 rfl rfl)
theorem dX6_aPerson_57 : decode cX6_aPerson 57 = .ok (.iconst (-1), 1) := dk_2 (dk_at dksX6_aPerson_2 11 rfl rfl)
theorem dX6_aPerson_58 : decode cX6_aPerson 58 = .ok (.if_icmp .eq 9, 3) := dk_159 0 9 (dk_at dksX6_aPerson_2 12 rfl rfl)
theorem dX6_aPerson_61 : decode cX6_aPerson 61 = .ok (.aload_n 0, 1) := dk_42 (dk_at dksX6_aPerson_2 15 rfl rfl)
theorem dX6_aPerson_62 : decode cX6_aPerson 62 = .ok (.iconst 3, 1) := dk_6 (dk_at dksX6_aPerson_2 16 rfl rfl)
theorem dX6_aPerson_63 : decode cX6_aPerson 63 = .ok (.invokevirtual 157, 3) := dk_182 0 157 (dk_at dksX6_aPerson_2 17 rfl rfl)
theorem dX6_aPerson_66 : decode cX6_aPerson 66 = .ok (.ireturn, 1) := dk_172 (dk_at dksX6_aPerson_2 20 rfl rfl)
theorem dX6_aPerson_67 : decode cX6_aPerson 67 = .ok (.aload_n 0, 1) := dk_42 (dk_at dksX6_aPerson_2 21 rfl rfl)
theorem dX6_aPerson_68 : decode cX6_aPerson 68 = .ok (.getfield 13, 3) := dk_180 0 13 (dk_at dksX6_aPerson_3 0 rfl rfl)
theorem dX6_aPerson_71 : decode cX6_aPerson 71 = .ok (.bipush 24, 2) := dk_16 24 (dk_at dksX6_aPerson_3 3 rfl rfl)
theorem dX6_aPerson_73 : decode cX6_aPerson 73 = .ok (.iload_n 1, 1) := dk_27 (dk_at dksX6_aPerson_3 5 rfl rfl)
theorem dX6_aPerson_74 : decode cX6_aPerson 74 = .ok (.iadd, 1) := dk_96 (dk_at dksX6_aPerson_3 6 rfl rfl)
theorem dX6_aPerson_75 : decode cX6_aPerson 75 = .ok (.aload_n 0, 1) := dk_42 (dk_at dksX6_aPerson_3 7 rfl rfl)
theorem dX6_aPerson_76 : decode cX6_aPerson 76 = .ok (.invokevirtual 164, 3) := dk_182 0 164 (dk_at dksX6_aPerson_3 8 rfl rfl)
theorem dX6_aPerson_79 : decode cX6_aPerson 79 = .ok (.lastore, 1) := dk_80 (dk_at dksX6_aPerson_3 11 rfl rfl)
theorem dX6_aPerson_80 : decode cX6_aPerson 80 = .ok (.aload_n 0, 1) := dk_42 (dk_at dksX6_aPerson_3 12 rfl rfl)
theorem dX6_aPerson_81 : decode cX6_aPerson 81 = .ok (.invokevirtual 151, 3) := dk_182 0 151 (dk_at dksX6_aPerson_3 13 rfl rfl)
theorem dX6_aPerson_84 : decode cX6_aPerson 84 = .ok (.aload_n 0, 1) := dk_42 (dk_at dksX6_aPerson_3 16 rfl rfl)
theorem dX6_aPerson_85 : decode cX6_aPerson 85 = .ok (.getfield 7, 3) := dk_180 0 7 (dk_at dksX6_aPerson_3 17 rfl rfl)
theorem dX6_aPerson_88 : decode cX6_aPerson 88 = .ok (.iload_n 2, 1) := dk_28 (dk_at dksX6_aPerson_3 20 rfl rfl)
theorem dX6_aPerson_89 : decode cX6_aPerson 89 = .ok (.iconst 1, 1) := dk_4 (dk_at dksX6_aPerson_3 21 rfl rfl)
theorem dX6_aPerson_90 : decode cX6_aPerson 90 = .ok (.iadd, 1) := dk_96 (dk_at dksX6_aPerson_3 22 rfl rfl)
theorem dX6_aPerson_91 : decode cX6_aPerson 91 = .ok (.iconst 1, 1) := dk_4 (dk_at dksX6_aPerson_3 23 rfl rfl)
theorem dX6_aPerson_92 : decode cX6_aPerson 92 = .ok (.iastore, 1) := dk_79 (dk_at dksX6_aPerson_4 0 rfl rfl)
theorem dX6_aPerson_93 : decode cX6_aPerson 93 = .ok (.aload_n 0, 1) := dk_42 (dk_at dksX6_aPerson_4 1 rfl rfl)
theorem dX6_aPerson_94 : decode cX6_aPerson 94 = .ok (.getfield 7, 3) := dk_180 0 7 (dk_at dksX6_aPerson_4 2 rfl rfl)
theorem dX6_aPerson_97 : decode cX6_aPerson 97 = .ok (.iload_n 2, 1) := dk_28 (dk_at dksX6_aPerson_4 5 rfl rfl)
theorem dX6_aPerson_98 : decode cX6_aPerson 98 = .ok (.iconst 3, 1) := dk_6 (dk_at dksX6_aPerson_4 6 rfl rfl)
theorem dX6_aPerson_99 : decode cX6_aPerson 99 = .ok (.iadd, 1) := dk_96 (dk_at dksX6_aPerson_4 7 rfl rfl)
theorem dX6_aPerson_100 : decode cX6_aPerson 100 = .ok (.sipush 999, 3) := dk_17 3 231 (dk_at dksX6_aPerson_4 8 rfl rfl)
theorem dX6_aPerson_103 : decode cX6_aPerson 103 = .ok (.iastore, 1) := dk_79 (dk_at dksX6_aPerson_4 11 rfl rfl)
theorem dX6_aPerson_104 : decode cX6_aPerson 104 = .ok (.aload_n 0, 1) := dk_42 (dk_at dksX6_aPerson_4 12 rfl rfl)
theorem dX6_aPerson_105 : decode cX6_aPerson 105 = .ok (.getfield 7, 3) := dk_180 0 7 (dk_at dksX6_aPerson_4 13 rfl rfl)
theorem dX6_aPerson_108 : decode cX6_aPerson 108 = .ok (.iload_n 2, 1) := dk_28 (dk_at dksX6_aPerson_4 16 rfl rfl)
theorem dX6_aPerson_109 : decode cX6_aPerson 109 = .ok (.iconst 4, 1) := dk_7 (dk_at dksX6_aPerson_4 17 rfl rfl)
theorem dX6_aPerson_110 : decode cX6_aPerson 110 = .ok (.iadd, 1) := dk_96 (dk_at dksX6_aPerson_4 18 rfl rfl)
theorem dX6_aPerson_111 : decode cX6_aPerson 111 = .ok (.iconst (-1), 1) := dk_2 (dk_at dksX6_aPerson_4 19 rfl rfl)
theorem dX6_aPerson_112 : decode cX6_aPerson 112 = .ok (.iastore, 1) := dk_79 (dk_at dksX6_aPerson_4 20 rfl rfl)
theorem dX6_aPerson_113 : decode cX6_aPerson 113 = .ok (.aload_n 0, 1) := dk_42 (dk_at dksX6_aPerson_4 21 rfl rfl)
theorem dX6_aPerson_114 : decode cX6_aPerson 114 = .ok (.bipush 6, 2) := dk_16 6 (dk_at dksX6_aPerson_4 22 rfl rfl)
theorem dX6_aPerson_116 : decode cX6_aPerson 116 = .ok (.invokevirtual 181, 3) := dk_182 0 181 (dk_at dksX6_aPerson_5 0 rfl rfl)
theorem dX6_aPerson_119 : decode cX6_aPerson 119 = .ok (.ifCond .eq 14, 3) := dk_153 0 14 (dk_at dksX6_aPerson_5 3 rfl rfl)
theorem dX6_aPerson_122 : decode cX6_aPerson 122 = .ok (.aload_n 0, 1) := dk_42 (dk_at dksX6_aPerson_5 6 rfl rfl)
theorem dX6_aPerson_123 : decode cX6_aPerson 123 = .ok (.iload_n 2, 1) := dk_28 (dk_at dksX6_aPerson_5 7 rfl rfl)
theorem dX6_aPerson_124 : decode cX6_aPerson 124 = .ok (.iconst 0, 1) := dk_3 (dk_at dksX6_aPerson_5 8 rfl rfl)
theorem dX6_aPerson_125 : decode cX6_aPerson 125 = .ok (.bipush 16, 2) := dk_16 16 (dk_at dksX6_aPerson_5 9 rfl rfl)
theorem dX6_aPerson_127 : decode cX6_aPerson 127 = .ok (.invokevirtual 184, 3) := dk_182 0 184 (dk_at dksX6_aPerson_5 11 rfl rfl)
theorem dX6_aPerson_130 : decode cX6_aPerson 130 = .ok (.ifCond .eq 70, 3) := dk_153 0 70 (dk_at dksX6_aPerson_5 14 rfl rfl)
theorem dX6_aPerson_133 : decode cX6_aPerson 133 = .ok (.aload_n 0, 1) := dk_42 (dk_at dksX6_aPerson_5 17 rfl rfl)
theorem dX6_aPerson_134 : decode cX6_aPerson 134 = .ok (.bipush 7, 2) := dk_16 7 (dk_at dksX6_aPerson_5 18 rfl rfl)
theorem dX6_aPerson_136 : decode cX6_aPerson 136 = .ok (.invokevirtual 181, 3) := dk_182 0 181 (dk_at dksX6_aPerson_5 20 rfl rfl)
theorem dX6_aPerson_139 : decode cX6_aPerson 139 = .ok (.ifCond .eq 16, 3) := dk_153 0 16 (dk_at dksX6_aPerson_6 0 rfl rfl)
theorem dX6_aPerson_142 : decode cX6_aPerson 142 = .ok (.aload_n 0, 1) := dk_42 (dk_at dksX6_aPerson_6 3 rfl rfl)
theorem dX6_aPerson_143 : decode cX6_aPerson 143 = .ok (.iload_n 2, 1) := dk_28 (dk_at dksX6_aPerson_6 4 rfl rfl)
theorem dX6_aPerson_144 : decode cX6_aPerson 144 = .ok (.iconst 1, 1) := dk_4 (dk_at dksX6_aPerson_6 5 rfl rfl)
theorem dX6_aPerson_145 : decode cX6_aPerson 145 = .ok (.iadd, 1) := dk_96 (dk_at dksX6_aPerson_6 6 rfl rfl)
theorem dX6_aPerson_146 : decode cX6_aPerson 146 = .ok (.iconst 0, 1) := dk_3 (dk_at dksX6_aPerson_6 7 rfl rfl)
theorem dX6_aPerson_147 : decode cX6_aPerson 147 = .ok (.bipush 20, 2) := dk_16 20 (dk_at dksX6_aPerson_6 8 rfl rfl)
theorem dX6_aPerson_149 : decode cX6_aPerson 149 = .ok (.invokevirtual 184, 3) := dk_182 0 184 (dk_at dksX6_aPerson_6 10 rfl rfl)
theorem dX6_aPerson_152 : decode cX6_aPerson 152 = .ok (.ifCond .eq 48, 3) := dk_153 0 48 (dk_at dksX6_aPerson_6 13 rfl rfl)
theorem dX6_aPerson_155 : decode cX6_aPerson 155 = .ok (.aload_n 0, 1) := dk_42 (dk_at dksX6_aPerson_6 16 rfl rfl)
theorem dX6_aPerson_156 : decode cX6_aPerson 156 = .ok (.bipush 8, 2) := dk_16 8 (dk_at dksX6_aPerson_6 17 rfl rfl)
theorem dX6_aPerson_158 : decode cX6_aPerson 158 = .ok (.invokevirtual 181, 3) := dk_182 0 181 (dk_at dksX6_aPerson_6 19 rfl rfl)
theorem dX6_aPerson_161 : decode cX6_aPerson 161 = .ok (.ifCond .eq 16, 3) := dk_153 0 16 (dk_at dksX6_aPerson_7 0 rfl rfl)
theorem dX6_aPerson_164 : decode cX6_aPerson 164 = .ok (.aload_n 0, 1) := dk_42 (dk_at dksX6_aPerson_7 3 rfl rfl)
theorem dX6_aPerson_165 : decode cX6_aPerson 165 = .ok (.iload_n 2, 1) := dk_28 (dk_at dksX6_aPerson_7 4 rfl rfl)
theorem dX6_aPerson_166 : decode cX6_aPerson 166 = .ok (.iconst 2, 1) := dk_5 (dk_at dksX6_aPerson_7 5 rfl rfl)
theorem dX6_aPerson_167 : decode cX6_aPerson 167 = .ok (.iadd, 1) := dk_96 (dk_at dksX6_aPerson_7 6 rfl rfl)
theorem dX6_aPerson_168 : decode cX6_aPerson 168 = .ok (.iconst 0, 1) := dk_3 (dk_at dksX6_aPerson_7 7 rfl rfl)
theorem dX6_aPerson_169 : decode cX6_aPerson 169 = .ok (.bipush 99, 2) := dk_16 99 (dk_at dksX6_aPerson_7 8 rfl rfl)
theorem dX6_aPerson_171 : decode cX6_aPerson 171 = .ok (.invokevirtual 184, 3) := dk_182 0 184 (dk_at dksX6_aPerson_7 10 rfl rfl)
theorem dX6_aPerson_174 : decode cX6_aPerson 174 = .ok (.ifCond .eq 26, 3) := dk_153 0 26 (dk_at dksX6_aPerson_7 13 rfl rfl)
theorem dX6_aPerson_177 : decode cX6_aPerson 177 = .ok (.aload_n 0, 1) := dk_42 (dk_at dksX6_aPerson_7 16 rfl rfl)
theorem dX6_aPerson_178 : decode cX6_aPerson 178 = .ok (.bipush 9, 2) := dk_16 9 (dk_at dksX6_aPerson_7 17 rfl rfl)
theorem dX6_aPerson_180 : decode cX6_aPerson 180 = .ok (.invokevirtual 181, 3) := dk_182 0 181 (dk_at dksX6_aPerson_7 19 rfl rfl)
theorem dX6_aPerson_183 : decode cX6_aPerson 183 = .ok (.ifCond .eq 19, 3) := dk_153 0 19 (dk_at dksX6_aPerson_8 0 rfl rfl)
theorem dX6_aPerson_186 : decode cX6_aPerson 186 = .ok (.aload_n 0, 1) := dk_42 (dk_at dksX6_aPerson_8 3 rfl rfl)
theorem dX6_aPerson_187 : decode cX6_aPerson 187 = .ok (.iload_n 2, 1) := dk_28 (dk_at dksX6_aPerson_8 4 rfl rfl)
theorem dX6_aPerson_188 : decode cX6_aPerson 188 = .ok (.iconst 3, 1) := dk_6 (dk_at dksX6_aPerson_8 5 rfl rfl)
theorem dX6_aPerson_189 : decode cX6_aPerson 189 = .ok (.iadd, 1) := dk_96 (dk_at dksX6_aPerson_8 6 rfl rfl)
theorem dX6_aPerson_190 : decode cX6_aPerson 190 = .ok (.iconst 0, 1) := dk_3 (dk_at dksX6_aPerson_8 7 rfl rfl)
theorem dX6_aPerson_191 : decode cX6_aPerson 191 = .ok (.sipush 999, 3) := dk_17 3 231 (dk_at dksX6_aPerson_8 8 rfl rfl)
theorem dX6_aPerson_194 : decode cX6_aPerson 194 = .ok (.invokevirtual 184, 3) := dk_182 0 184 (dk_at dksX6_aPerson_8 11 rfl rfl)
theorem dX6_aPerson_197 : decode cX6_aPerson 197 = .ok (.ifCond .ne 5, 3) := dk_154 0 5 (dk_at dksX6_aPerson_8 14 rfl rfl)
theorem dX6_aPerson_200 : decode cX6_aPerson 200 = .ok (.iconst 0, 1) := dk_3 (dk_at dksX6_aPerson_8 17 rfl rfl)
theorem dX6_aPerson_201 : decode cX6_aPerson 201 = .ok (.ireturn, 1) := dk_172 (dk_at dksX6_aPerson_8 18 rfl rfl)
theorem dX6_aPerson_202 : decode cX6_aPerson 202 = .ok (.aload_n 0, 1) := dk_42 (dk_at dksX6_aPerson_8 19 rfl rfl)
theorem dX6_aPerson_203 : decode cX6_aPerson 203 = .ok (.bipush 10, 2) := dk_16 10 (dk_at dksX6_aPerson_8 20 rfl rfl)
theorem dX6_aPerson_205 : decode cX6_aPerson 205 = .ok (.invokevirtual 181, 3) := dk_182 0 181 (dk_at dksX6_aPerson_9 0 rfl rfl)
theorem dX6_aPerson_208 : decode cX6_aPerson 208 = .ok (.ifCond .eq 17, 3) := dk_153 0 17 (dk_at dksX6_aPerson_9 3 rfl rfl)
theorem dX6_aPerson_211 : decode cX6_aPerson 211 = .ok (.aload_n 0, 1) := dk_42 (dk_at dksX6_aPerson_9 6 rfl rfl)
theorem dX6_aPerson_212 : decode cX6_aPerson 212 = .ok (.getfield 7, 3) := dk_180 0 7 (dk_at dksX6_aPerson_9 7 rfl rfl)
theorem dX6_aPerson_215 : decode cX6_aPerson 215 = .ok (.sipush 2007, 3) := dk_17 7 215 (dk_at dksX6_aPerson_9 10 rfl rfl)
theorem dX6_aPerson_218 : decode cX6_aPerson 218 = .ok (.dup2, 1) := dk_92 (dk_at dksX6_aPerson_9 13 rfl rfl)
theorem dX6_aPerson_219 : decode cX6_aPerson 219 = .ok (.iaload, 1) := dk_46 (dk_at dksX6_aPerson_9 14 rfl rfl)
theorem dX6_aPerson_220 : decode cX6_aPerson 220 = .ok (.iconst 1, 1) := dk_4 (dk_at dksX6_aPerson_9 15 rfl rfl)
theorem dX6_aPerson_221 : decode cX6_aPerson 221 = .ok (.iload_n 1, 1) := dk_27 (dk_at dksX6_aPerson_9 16 rfl rfl)
theorem dX6_aPerson_222 : decode cX6_aPerson 222 = .ok (.ishl, 1) := dk_120 (dk_at dksX6_aPerson_9 17 rfl rfl)
theorem dX6_aPerson_223 : decode cX6_aPerson 223 = .ok (.ior, 1) := dk_128 (dk_at dksX6_aPerson_9 18 rfl rfl)
theorem dX6_aPerson_224 : decode cX6_aPerson 224 = .ok (.iastore, 1) := dk_79 (dk_at dksX6_aPerson_9 19 rfl rfl)
theorem dX6_aPerson_225 : decode cX6_aPerson 225 = .ok (.aload_n 0, 1) := dk_42 (dk_at dksX6_aPerson_9 20 rfl rfl)
theorem dX6_aPerson_226 : decode cX6_aPerson 226 = .ok (.getfield 7, 3) := dk_180 0 7 (dk_at dksX6_aPerson_9 21 rfl rfl)
theorem dX6_aPerson_229 : decode cX6_aPerson 229 = .ok (.sipush 2008, 3) := dk_17 7 216 (dk_at dksX6_aPerson_10 0 rfl rfl)
theorem dX6_aPerson_232 : decode cX6_aPerson 232 = .ok (.dup2, 1) := dk_92 (dk_at dksX6_aPerson_10 3 rfl rfl)
theorem dX6_aPerson_233 : decode cX6_aPerson 233 = .ok (.iaload, 1) := dk_46 (dk_at dksX6_aPerson_10 4 rfl rfl)
theorem dX6_aPerson_234 : decode cX6_aPerson 234 = .ok (.iconst 1, 1) := dk_4 (dk_at dksX6_aPerson_10 5 rfl rfl)
theorem dX6_aPerson_235 : decode cX6_aPerson 235 = .ok (.iload_n 1, 1) := dk_27 (dk_at dksX6_aPerson_10 6 rfl rfl)
theorem dX6_aPerson_236 : decode cX6_aPerson 236 = .ok (.ishl, 1) := dk_120 (dk_at dksX6_aPerson_10 7 rfl rfl)
theorem dX6_aPerson_237 : decode cX6_aPerson 237 = .ok (.ior, 1) := dk_128 (dk_at dksX6_aPerson_10 8 rfl rfl)
theorem dX6_aPerson_238 : decode cX6_aPerson 238 = .ok (.iastore, 1) := dk_79 (dk_at dksX6_aPerson_10 9 rfl rfl)
theorem dX6_aPerson_239 : decode cX6_aPerson 239 = .ok (.aload_n 0, 1) := dk_42 (dk_at dksX6_aPerson_10 10 rfl rfl)
theorem dX6_aPerson_240 : decode cX6_aPerson 240 = .ok (.getfield 7, 3) := dk_180 0 7 (dk_at dksX6_aPerson_10 11 rfl rfl)
theorem dX6_aPerson_243 : decode cX6_aPerson 243 = .ok (.sipush 2000, 3) := dk_17 7 208 (dk_at dksX6_aPerson_10 14 rfl rfl)
theorem dX6_aPerson_246 : decode cX6_aPerson 246 = .ok (.dup2, 1) := dk_92 (dk_at dksX6_aPerson_10 17 rfl rfl)
theorem dX6_aPerson_247 : decode cX6_aPerson 247 = .ok (.iaload, 1) := dk_46 (dk_at dksX6_aPerson_10 18 rfl rfl)
theorem dX6_aPerson_248 : decode cX6_aPerson 248 = .ok (.iconst 1, 1) := dk_4 (dk_at dksX6_aPerson_10 19 rfl rfl)
theorem dX6_aPerson_249 : decode cX6_aPerson 249 = .ok (.iadd, 1) := dk_96 (dk_at dksX6_aPerson_10 20 rfl rfl)
theorem dX6_aPerson_250 : decode cX6_aPerson 250 = .ok (.iastore, 1) := dk_79 (dk_at dksX6_aPerson_10 21 rfl rfl)
theorem dX6_aPerson_251 : decode cX6_aPerson 251 = .ok (.iconst 1, 1) := dk_4 (dk_at dksX6_aPerson_10 22 rfl rfl)
theorem dX6_aPerson_252 : decode cX6_aPerson 252 = .ok (.ireturn, 1) := dk_172 (dk_at dksX6_aPerson_10 23 rfl rfl)
abbrev cX6_fails : ByteArray := prog_16_method_27_code
def yX6_fails : MethodName := ⟨RX6, "fails", "(I)Z"⟩
def dkwX6_fails_1 : List UInt8 := [42, 42, 180, 0, 114, 181, 0, 41, 3, 172]
abbrev dktX6_fails_1 : List UInt8 := dkwX6_fails_1 ++ []
def dkwX6_fails_0 : List UInt8 := [42, 180, 0, 145, 154, 0, 28, 42, 42, 180, 0, 120, 4, 160, 0, 7, 4, 167, 0, 4, 27, 181, 0, 145]
abbrev dktX6_fails_0 : List UInt8 := dkwX6_fails_0 ++ dktX6_fails_1
theorem dksX6_fails_0 : cX6_fails.data.toList.drop 0 = dktX6_fails_0 := by decide +kernel
theorem dksX6_fails_1 : cX6_fails.data.toList.drop 24 = dktX6_fails_1 := dk_seg dksX6_fails_0 24 rfl rfl
theorem dX6_fails_0 : decode cX6_fails 0 = .ok (.aload_n 0, 1) := dk_42 (dk_at dksX6_fails_0 0 rfl rfl)
theorem dX6_fails_1 : decode cX6_fails 1 = .ok (.getfield 145, 3) := dk_180 0 145 (dk_at dksX6_fails_0 1 rfl rfl)
theorem dX6_fails_4 : decode cX6_fails 4 = .ok (.ifCond .ne 28, 3) := dk_154 0 28 (dk_at dksX6_fails_0 4 rfl rfl)
theorem dX6_fails_7 : decode cX6_fails 7 = .ok (.aload_n 0, 1) := dk_42 (dk_at dksX6_fails_0 7 rfl rfl)
theorem dX6_fails_8 : decode cX6_fails 8 = .ok (.aload_n 0, 1) := dk_42 (dk_at dksX6_fails_0 8 rfl rfl)
theorem dX6_fails_9 : decode cX6_fails 9 = .ok (.getfield 120, 3) := dk_180 0 120 (dk_at dksX6_fails_0 9 rfl rfl)
theorem dX6_fails_12 : decode cX6_fails 12 = .ok (.iconst 1, 1) := dk_4 (dk_at dksX6_fails_0 12 rfl rfl)
theorem dX6_fails_13 : decode cX6_fails 13 = .ok (.if_icmp .ne 7, 3) := dk_160 0 7 (dk_at dksX6_fails_0 13 rfl rfl)
theorem dX6_fails_16 : decode cX6_fails 16 = .ok (.iconst 1, 1) := dk_4 (dk_at dksX6_fails_0 16 rfl rfl)
theorem dX6_fails_17 : decode cX6_fails 17 = .ok (.goto 4, 3) := dk_167 0 4 (dk_at dksX6_fails_0 17 rfl rfl)
theorem dX6_fails_20 : decode cX6_fails 20 = .ok (.iload_n 1, 1) := dk_27 (dk_at dksX6_fails_0 20 rfl rfl)
theorem dX6_fails_21 : decode cX6_fails 21 = .ok (.putfield 145, 3) := dk_181 0 145 (dk_at dksX6_fails_0 21 rfl rfl)
theorem dX6_fails_24 : decode cX6_fails 24 = .ok (.aload_n 0, 1) := dk_42 (dk_at dksX6_fails_1 0 rfl rfl)
theorem dX6_fails_25 : decode cX6_fails 25 = .ok (.aload_n 0, 1) := dk_42 (dk_at dksX6_fails_1 1 rfl rfl)
theorem dX6_fails_26 : decode cX6_fails 26 = .ok (.getfield 114, 3) := dk_180 0 114 (dk_at dksX6_fails_1 2 rfl rfl)
theorem dX6_fails_29 : decode cX6_fails 29 = .ok (.putfield 41, 3) := dk_181 0 41 (dk_at dksX6_fails_1 5 rfl rfl)
theorem dX6_fails_32 : decode cX6_fails 32 = .ok (.iconst 0, 1) := dk_3 (dk_at dksX6_fails_1 8 rfl rfl)
theorem dX6_fails_33 : decode cX6_fails 33 = .ok (.ireturn, 1) := dk_172 (dk_at dksX6_fails_1 9 rfl rfl)
abbrev cX6_isName : ByteArray := prog_16_method_32_code
def yX6_isName : MethodName := ⟨RX6, "isName", "(Ljava/lang/String;)Z"⟩
def dkwX6_isName_1 : List UInt8 := [182, 0, 160, 2, 160, 0, 7, 4, 167, 0, 4, 3, 172]
abbrev dktX6_isName_1 : List UInt8 := dkwX6_isName_1 ++ []
def dkwX6_isName_0 : List UInt8 := [42, 180, 0, 120, 5, 160, 0, 30, 42, 180, 0, 108, 42, 180, 0, 114, 100, 16, 8, 163, 0, 16, 42, 43]
abbrev dktX6_isName_0 : List UInt8 := dkwX6_isName_0 ++ dktX6_isName_1
theorem dksX6_isName_0 : cX6_isName.data.toList.drop 0 = dktX6_isName_0 := by decide +kernel
theorem dksX6_isName_1 : cX6_isName.data.toList.drop 24 = dktX6_isName_1 := dk_seg dksX6_isName_0 24 rfl rfl
theorem dX6_isName_0 : decode cX6_isName 0 = .ok (.aload_n 0, 1) := dk_42 (dk_at dksX6_isName_0 0 rfl rfl)
theorem dX6_isName_1 : decode cX6_isName 1 = .ok (.getfield 120, 3) := dk_180 0 120 (dk_at dksX6_isName_0 1 rfl rfl)
theorem dX6_isName_4 : decode cX6_isName 4 = .ok (.iconst 2, 1) := dk_5 (dk_at dksX6_isName_0 4 rfl rfl)
theorem dX6_isName_5 : decode cX6_isName 5 = .ok (.if_icmp .ne 30, 3) := dk_160 0 30 (dk_at dksX6_isName_0 5 rfl rfl)
theorem dX6_isName_8 : decode cX6_isName 8 = .ok (.aload_n 0, 1) := dk_42 (dk_at dksX6_isName_0 8 rfl rfl)
theorem dX6_isName_9 : decode cX6_isName 9 = .ok (.getfield 108, 3) := dk_180 0 108 (dk_at dksX6_isName_0 9 rfl rfl)
theorem dX6_isName_12 : decode cX6_isName 12 = .ok (.aload_n 0, 1) := dk_42 (dk_at dksX6_isName_0 12 rfl rfl)
theorem dX6_isName_13 : decode cX6_isName 13 = .ok (.getfield 114, 3) := dk_180 0 114 (dk_at dksX6_isName_0 13 rfl rfl)
theorem dX6_isName_16 : decode cX6_isName 16 = .ok (.isub, 1) := dk_100 (dk_at dksX6_isName_0 16 rfl rfl)
theorem dX6_isName_17 : decode cX6_isName 17 = .ok (.bipush 8, 2) := dk_16 8 (dk_at dksX6_isName_0 17 rfl rfl)
theorem dX6_isName_19 : decode cX6_isName 19 = .ok (.if_icmp .gt 16, 3) := dk_163 0 16 (dk_at dksX6_isName_0 19 rfl rfl)
theorem dX6_isName_22 : decode cX6_isName 22 = .ok (.aload_n 0, 1) := dk_42 (dk_at dksX6_isName_0 22 rfl rfl)
theorem dX6_isName_23 : decode cX6_isName 23 = .ok (.aload_n 1, 1) := dk_43 (dk_at dksX6_isName_0 23 rfl rfl)
theorem dX6_isName_24 : decode cX6_isName 24 = .ok (.invokevirtual 160, 3) := dk_182 0 160 (dk_at dksX6_isName_1 0 rfl rfl)
theorem dX6_isName_27 : decode cX6_isName 27 = .ok (.iconst (-1), 1) := dk_2 (dk_at dksX6_isName_1 3 rfl rfl)
theorem dX6_isName_28 : decode cX6_isName 28 = .ok (.if_icmp .ne 7, 3) := dk_160 0 7 (dk_at dksX6_isName_1 4 rfl rfl)
theorem dX6_isName_31 : decode cX6_isName 31 = .ok (.iconst 1, 1) := dk_4 (dk_at dksX6_isName_1 7 rfl rfl)
theorem dX6_isName_32 : decode cX6_isName 32 = .ok (.goto 4, 3) := dk_167 0 4 (dk_at dksX6_isName_1 8 rfl rfl)
theorem dX6_isName_35 : decode cX6_isName 35 = .ok (.iconst 0, 1) := dk_3 (dk_at dksX6_isName_1 11 rfl rfl)
theorem dX6_isName_36 : decode cX6_isName 36 = .ok (.ireturn, 1) := dk_172 (dk_at dksX6_isName_1 12 rfl rfl)
abbrev cX6_findHere : ByteArray := prog_16_method_34_code
def yX6_findHere : MethodName := ⟨RX6, "findHere", "(II)I"⟩
def dkwX6_findHere_1 : List UInt8 := [172, 132, 3, 1, 167, 255, 230, 2, 172]
abbrev dktX6_findHere_1 : List UInt8 := dkwX6_findHere_1 ++ []
def dkwX6_findHere_0 : List UInt8 := [3, 62, 29, 28, 162, 0, 27, 42, 180, 0, 13, 27, 29, 96, 47, 42, 182, 0, 164, 148, 154, 0, 5, 29]
abbrev dktX6_findHere_0 : List UInt8 := dkwX6_findHere_0 ++ dktX6_findHere_1
theorem dksX6_findHere_0 : cX6_findHere.data.toList.drop 0 = dktX6_findHere_0 := by decide +kernel
theorem dksX6_findHere_1 : cX6_findHere.data.toList.drop 24 = dktX6_findHere_1 := dk_seg dksX6_findHere_0 24 rfl rfl
theorem dX6_findHere_0 : decode cX6_findHere 0 = .ok (.iconst 0, 1) := dk_3 (dk_at dksX6_findHere_0 0 rfl rfl)
theorem dX6_findHere_1 : decode cX6_findHere 1 = .ok (.istore_n 3, 1) := dk_62 (dk_at dksX6_findHere_0 1 rfl rfl)
theorem dX6_findHere_2 : decode cX6_findHere 2 = .ok (.iload_n 3, 1) := dk_29 (dk_at dksX6_findHere_0 2 rfl rfl)
theorem dX6_findHere_3 : decode cX6_findHere 3 = .ok (.iload_n 2, 1) := dk_28 (dk_at dksX6_findHere_0 3 rfl rfl)
theorem dX6_findHere_4 : decode cX6_findHere 4 = .ok (.if_icmp .ge 27, 3) := dk_162 0 27 (dk_at dksX6_findHere_0 4 rfl rfl)
theorem dX6_findHere_7 : decode cX6_findHere 7 = .ok (.aload_n 0, 1) := dk_42 (dk_at dksX6_findHere_0 7 rfl rfl)
theorem dX6_findHere_8 : decode cX6_findHere 8 = .ok (.getfield 13, 3) := dk_180 0 13 (dk_at dksX6_findHere_0 8 rfl rfl)
theorem dX6_findHere_11 : decode cX6_findHere 11 = .ok (.iload_n 1, 1) := dk_27 (dk_at dksX6_findHere_0 11 rfl rfl)
theorem dX6_findHere_12 : decode cX6_findHere 12 = .ok (.iload_n 3, 1) := dk_29 (dk_at dksX6_findHere_0 12 rfl rfl)
theorem dX6_findHere_13 : decode cX6_findHere 13 = .ok (.iadd, 1) := dk_96 (dk_at dksX6_findHere_0 13 rfl rfl)
theorem dX6_findHere_14 : decode cX6_findHere 14 = .ok (.laload, 1) := dk_47 (dk_at dksX6_findHere_0 14 rfl rfl)
theorem dX6_findHere_15 : decode cX6_findHere 15 = .ok (.aload_n 0, 1) := dk_42 (dk_at dksX6_findHere_0 15 rfl rfl)
theorem dX6_findHere_16 : decode cX6_findHere 16 = .ok (.invokevirtual 164, 3) := dk_182 0 164 (dk_at dksX6_findHere_0 16 rfl rfl)
theorem dX6_findHere_19 : decode cX6_findHere 19 = .ok (.lcmp, 1) := dk_148 (dk_at dksX6_findHere_0 19 rfl rfl)
theorem dX6_findHere_20 : decode cX6_findHere 20 = .ok (.ifCond .ne 5, 3) := dk_154 0 5 (dk_at dksX6_findHere_0 20 rfl rfl)
theorem dX6_findHere_23 : decode cX6_findHere 23 = .ok (.iload_n 3, 1) := dk_29 (dk_at dksX6_findHere_0 23 rfl rfl)
theorem dX6_findHere_24 : decode cX6_findHere 24 = .ok (.ireturn, 1) := dk_172 (dk_at dksX6_findHere_1 0 rfl rfl)
theorem dX6_findHere_25 : decode cX6_findHere 25 = .ok (.iinc 3 1, 3) := dk_132 3 1 (dk_at dksX6_findHere_1 1 rfl rfl)
theorem dX6_findHere_28 : decode cX6_findHere 28 = .ok (.goto (-26), 3) := dk_167 255 230 (dk_at dksX6_findHere_1 4 rfl rfl)
theorem dX6_findHere_31 : decode cX6_findHere 31 = .ok (.iconst (-1), 1) := dk_2 (dk_at dksX6_findHere_1 7 rfl rfl)
theorem dX6_findHere_32 : decode cX6_findHere 32 = .ok (.ireturn, 1) := dk_172 (dk_at dksX6_findHere_1 8 rfl rfl)
abbrev cX6_nameHere : ByteArray := prog_16_method_33_code
def yX6_nameHere : MethodName := ⟨RX6, "nameHere", "()J"⟩
def dkwX6_nameHere_1 : List UInt8 := [133, 129, 64, 132, 3, 1, 167, 255, 233, 31, 173]
abbrev dktX6_nameHere_1 : List UInt8 := dkwX6_nameHere_1 ++ []
def dkwX6_nameHere_0 : List UInt8 := [9, 64, 42, 180, 0, 114, 62, 29, 42, 180, 0, 108, 162, 0, 21, 31, 16, 8, 121, 42, 29, 182, 0, 111]
abbrev dktX6_nameHere_0 : List UInt8 := dkwX6_nameHere_0 ++ dktX6_nameHere_1
theorem dksX6_nameHere_0 : cX6_nameHere.data.toList.drop 0 = dktX6_nameHere_0 := by decide +kernel
theorem dksX6_nameHere_1 : cX6_nameHere.data.toList.drop 24 = dktX6_nameHere_1 := dk_seg dksX6_nameHere_0 24 rfl rfl
theorem dX6_nameHere_0 : decode cX6_nameHere 0 = .ok (.lconst 0, 1) := dk_9 (dk_at dksX6_nameHere_0 0 rfl rfl)
theorem dX6_nameHere_1 : decode cX6_nameHere 1 = .ok (.lstore_n 1, 1) := dk_64 (dk_at dksX6_nameHere_0 1 rfl rfl)
theorem dX6_nameHere_2 : decode cX6_nameHere 2 = .ok (.aload_n 0, 1) := dk_42 (dk_at dksX6_nameHere_0 2 rfl rfl)
theorem dX6_nameHere_3 : decode cX6_nameHere 3 = .ok (.getfield 114, 3) := dk_180 0 114 (dk_at dksX6_nameHere_0 3 rfl rfl)
theorem dX6_nameHere_6 : decode cX6_nameHere 6 = .ok (.istore_n 3, 1) := dk_62 (dk_at dksX6_nameHere_0 6 rfl rfl)
theorem dX6_nameHere_7 : decode cX6_nameHere 7 = .ok (.iload_n 3, 1) := dk_29 (dk_at dksX6_nameHere_0 7 rfl rfl)
theorem dX6_nameHere_8 : decode cX6_nameHere 8 = .ok (.aload_n 0, 1) := dk_42 (dk_at dksX6_nameHere_0 8 rfl rfl)
theorem dX6_nameHere_9 : decode cX6_nameHere 9 = .ok (.getfield 108, 3) := dk_180 0 108 (dk_at dksX6_nameHere_0 9 rfl rfl)
theorem dX6_nameHere_12 : decode cX6_nameHere 12 = .ok (.if_icmp .ge 21, 3) := dk_162 0 21 (dk_at dksX6_nameHere_0 12 rfl rfl)
theorem dX6_nameHere_15 : decode cX6_nameHere 15 = .ok (.lload_n 1, 1) := dk_31 (dk_at dksX6_nameHere_0 15 rfl rfl)
theorem dX6_nameHere_16 : decode cX6_nameHere 16 = .ok (.bipush 8, 2) := dk_16 8 (dk_at dksX6_nameHere_0 16 rfl rfl)
theorem dX6_nameHere_18 : decode cX6_nameHere 18 = .ok (.lshl, 1) := dk_121 (dk_at dksX6_nameHere_0 18 rfl rfl)
theorem dX6_nameHere_19 : decode cX6_nameHere 19 = .ok (.aload_n 0, 1) := dk_42 (dk_at dksX6_nameHere_0 19 rfl rfl)
theorem dX6_nameHere_20 : decode cX6_nameHere 20 = .ok (.iload_n 3, 1) := dk_29 (dk_at dksX6_nameHere_0 20 rfl rfl)
theorem dX6_nameHere_21 : decode cX6_nameHere 21 = .ok (.invokevirtual 111, 3) := dk_182 0 111 (dk_at dksX6_nameHere_0 21 rfl rfl)
theorem dX6_nameHere_24 : decode cX6_nameHere 24 = .ok (.i2l, 1) := dk_133 (dk_at dksX6_nameHere_1 0 rfl rfl)
theorem dX6_nameHere_25 : decode cX6_nameHere 25 = .ok (.lor, 1) := dk_129 (dk_at dksX6_nameHere_1 1 rfl rfl)
theorem dX6_nameHere_26 : decode cX6_nameHere 26 = .ok (.lstore_n 1, 1) := dk_64 (dk_at dksX6_nameHere_1 2 rfl rfl)
theorem dX6_nameHere_27 : decode cX6_nameHere 27 = .ok (.iinc 3 1, 3) := dk_132 3 1 (dk_at dksX6_nameHere_1 3 rfl rfl)
theorem dX6_nameHere_30 : decode cX6_nameHere 30 = .ok (.goto (-23), 3) := dk_167 255 233 (dk_at dksX6_nameHere_1 6 rfl rfl)
theorem dX6_nameHere_33 : decode cX6_nameHere 33 = .ok (.lload_n 1, 1) := dk_31 (dk_at dksX6_nameHere_1 9 rfl rfl)
theorem dX6_nameHere_34 : decode cX6_nameHere 34 = .ok (.lreturn, 1) := dk_173 (dk_at dksX6_nameHere_1 10 rfl rfl)
abbrev cX6_isThere : ByteArray := prog_16_method_37_code
def yX6_isThere : MethodName := ⟨RX6, "isThere", "(I)Z"⟩
def dkwX6_isThere_0 : List UInt8 := [42, 18, 168, 182, 0, 160, 27, 159, 0, 5, 3, 172, 42, 182, 0, 151, 4, 172]
abbrev dktX6_isThere_0 : List UInt8 := dkwX6_isThere_0 ++ []
theorem dksX6_isThere_0 : cX6_isThere.data.toList.drop 0 = dktX6_isThere_0 := by decide +kernel
theorem dX6_isThere_0 : decode cX6_isThere 0 = .ok (.aload_n 0, 1) := dk_42 (dk_at dksX6_isThere_0 0 rfl rfl)
theorem dX6_isThere_1 : decode cX6_isThere 1 = .ok (.ldc 168, 2) := dk_18 168 (dk_at dksX6_isThere_0 1 rfl rfl)
theorem dX6_isThere_3 : decode cX6_isThere 3 = .ok (.invokevirtual 160, 3) := dk_182 0 160 (dk_at dksX6_isThere_0 3 rfl rfl)
theorem dX6_isThere_6 : decode cX6_isThere 6 = .ok (.iload_n 1, 1) := dk_27 (dk_at dksX6_isThere_0 6 rfl rfl)
theorem dX6_isThere_7 : decode cX6_isThere 7 = .ok (.if_icmp .eq 5, 3) := dk_159 0 5 (dk_at dksX6_isThere_0 7 rfl rfl)
theorem dX6_isThere_10 : decode cX6_isThere 10 = .ok (.iconst 0, 1) := dk_3 (dk_at dksX6_isThere_0 10 rfl rfl)
theorem dX6_isThere_11 : decode cX6_isThere 11 = .ok (.ireturn, 1) := dk_172 (dk_at dksX6_isThere_0 11 rfl rfl)
theorem dX6_isThere_12 : decode cX6_isThere 12 = .ok (.aload_n 0, 1) := dk_42 (dk_at dksX6_isThere_0 12 rfl rfl)
theorem dX6_isThere_13 : decode cX6_isThere 13 = .ok (.invokevirtual 151, 3) := dk_182 0 151 (dk_at dksX6_isThere_0 13 rfl rfl)
theorem dX6_isThere_16 : decode cX6_isThere 16 = .ok (.iconst 1, 1) := dk_4 (dk_at dksX6_isThere_0 16 rfl rfl)
theorem dX6_isThere_17 : decode cX6_isThere 17 = .ok (.ireturn, 1) := dk_172 (dk_at dksX6_isThere_0 17 rfl rfl)
abbrev cX6_number : ByteArray := prog_16_method_31_code
def yX6_number : MethodName := ⟨RX6, "number", "(III)Z"⟩
def dkwX6_number_2 : List UInt8 := [182, 0, 151, 4, 172]
abbrev dktX6_number_2 : List UInt8 := dkwX6_number_2 ++ []
def dkwX6_number_1 : List UInt8 := [180, 0, 117, 29, 164, 0, 9, 42, 7, 182, 0, 157, 172, 42, 180, 0, 7, 27, 42, 180, 0, 117, 79, 42]
abbrev dktX6_number_1 : List UInt8 := dkwX6_number_1 ++ dktX6_number_2
def dkwX6_number_0 : List UInt8 := [42, 180, 0, 120, 6, 159, 0, 9, 42, 5, 182, 0, 157, 172, 42, 180, 0, 117, 28, 161, 0, 11, 42]
abbrev dktX6_number_0 : List UInt8 := dkwX6_number_0 ++ dktX6_number_1
theorem dksX6_number_0 : cX6_number.data.toList.drop 0 = dktX6_number_0 := by decide +kernel
theorem dksX6_number_1 : cX6_number.data.toList.drop 23 = dktX6_number_1 := dk_seg dksX6_number_0 23 rfl rfl
theorem dksX6_number_2 : cX6_number.data.toList.drop 47 = dktX6_number_2 := dk_seg dksX6_number_1 24 rfl rfl
theorem dX6_number_0 : decode cX6_number 0 = .ok (.aload_n 0, 1) := dk_42 (dk_at dksX6_number_0 0 rfl rfl)
theorem dX6_number_1 : decode cX6_number 1 = .ok (.getfield 120, 3) := dk_180 0 120 (dk_at dksX6_number_0 1 rfl rfl)
theorem dX6_number_4 : decode cX6_number 4 = .ok (.iconst 3, 1) := dk_6 (dk_at dksX6_number_0 4 rfl rfl)
theorem dX6_number_5 : decode cX6_number 5 = .ok (.if_icmp .eq 9, 3) := dk_159 0 9 (dk_at dksX6_number_0 5 rfl rfl)
theorem dX6_number_8 : decode cX6_number 8 = .ok (.aload_n 0, 1) := dk_42 (dk_at dksX6_number_0 8 rfl rfl)
theorem dX6_number_9 : decode cX6_number 9 = .ok (.iconst 2, 1) := dk_5 (dk_at dksX6_number_0 9 rfl rfl)
theorem dX6_number_10 : decode cX6_number 10 = .ok (.invokevirtual 157, 3) := dk_182 0 157 (dk_at dksX6_number_0 10 rfl rfl)
theorem dX6_number_13 : decode cX6_number 13 = .ok (.ireturn, 1) := dk_172 (dk_at dksX6_number_0 13 rfl rfl)
theorem dX6_number_14 : decode cX6_number 14 = .ok (.aload_n 0, 1) := dk_42 (dk_at dksX6_number_0 14 rfl rfl)
theorem dX6_number_15 : decode cX6_number 15 = .ok (.getfield 117, 3) := dk_180 0 117 (dk_at dksX6_number_0 15 rfl rfl)
theorem dX6_number_18 : decode cX6_number 18 = .ok (.iload_n 2, 1) := dk_28 (dk_at dksX6_number_0 18 rfl rfl)
theorem dX6_number_19 : decode cX6_number 19 = .ok (.if_icmp .lt 11, 3) := dk_161 0 11 (dk_at dksX6_number_0 19 rfl rfl)
theorem dX6_number_22 : decode cX6_number 22 = .ok (.aload_n 0, 1) := dk_42 (dk_at dksX6_number_0 22 rfl rfl)
theorem dX6_number_23 : decode cX6_number 23 = .ok (.getfield 117, 3) := dk_180 0 117 (dk_at dksX6_number_1 0 rfl rfl)
theorem dX6_number_26 : decode cX6_number 26 = .ok (.iload_n 3, 1) := dk_29 (dk_at dksX6_number_1 3 rfl rfl)
theorem dX6_number_27 : decode cX6_number 27 = .ok (.if_icmp .le 9, 3) := dk_164 0 9 (dk_at dksX6_number_1 4 rfl rfl)
theorem dX6_number_30 : decode cX6_number 30 = .ok (.aload_n 0, 1) := dk_42 (dk_at dksX6_number_1 7 rfl rfl)
theorem dX6_number_31 : decode cX6_number 31 = .ok (.iconst 4, 1) := dk_7 (dk_at dksX6_number_1 8 rfl rfl)
theorem dX6_number_32 : decode cX6_number 32 = .ok (.invokevirtual 157, 3) := dk_182 0 157 (dk_at dksX6_number_1 9 rfl rfl)
theorem dX6_number_35 : decode cX6_number 35 = .ok (.ireturn, 1) := dk_172 (dk_at dksX6_number_1 12 rfl rfl)
theorem dX6_number_36 : decode cX6_number 36 = .ok (.aload_n 0, 1) := dk_42 (dk_at dksX6_number_1 13 rfl rfl)
theorem dX6_number_37 : decode cX6_number 37 = .ok (.getfield 7, 3) := dk_180 0 7 (dk_at dksX6_number_1 14 rfl rfl)
theorem dX6_number_40 : decode cX6_number 40 = .ok (.iload_n 1, 1) := dk_27 (dk_at dksX6_number_1 17 rfl rfl)
theorem dX6_number_41 : decode cX6_number 41 = .ok (.aload_n 0, 1) := dk_42 (dk_at dksX6_number_1 18 rfl rfl)
theorem dX6_number_42 : decode cX6_number 42 = .ok (.getfield 117, 3) := dk_180 0 117 (dk_at dksX6_number_1 19 rfl rfl)
theorem dX6_number_45 : decode cX6_number 45 = .ok (.iastore, 1) := dk_79 (dk_at dksX6_number_1 22 rfl rfl)
theorem dX6_number_46 : decode cX6_number 46 = .ok (.aload_n 0, 1) := dk_42 (dk_at dksX6_number_1 23 rfl rfl)
theorem dX6_number_47 : decode cX6_number 47 = .ok (.invokevirtual 151, 3) := dk_182 0 151 (dk_at dksX6_number_2 0 rfl rfl)
theorem dX6_number_50 : decode cX6_number 50 = .ok (.iconst 1, 1) := dk_4 (dk_at dksX6_number_2 3 rfl rfl)
theorem dX6_number_51 : decode cX6_number 51 = .ok (.ireturn, 1) := dk_172 (dk_at dksX6_number_2 4 rfl rfl)
abbrev cX6_aCouple : ByteArray := prog_16_method_42_code
def yX6_aCouple : MethodName := ⟨RX6, "aCouple", "()Z"⟩
def dkwX6_aCouple_5 : List UInt8 := [4, 172]
abbrev dktX6_aCouple_5 : List UInt8 := dkwX6_aCouple_5 ++ []
def dkwX6_aCouple_4 : List UInt8 := [17, 7, 220, 16, 8, 28, 104, 96, 7, 96, 27, 79, 42, 180, 0, 7, 17, 7, 209, 92, 46, 4, 96, 79]
abbrev dktX6_aCouple_4 : List UInt8 := dkwX6_aCouple_4 ++ dktX6_aCouple_5
def dkwX6_aCouple_3 : List UInt8 := [46, 61, 42, 180, 0, 7, 17, 7, 220, 16, 8, 27, 104, 96, 7, 96, 28, 79, 42, 180, 0, 7]
abbrev dktX6_aCouple_3 : List UInt8 := dkwX6_aCouple_3 ++ dktX6_aCouple_4
def dkwX6_aCouple_2 : List UInt8 := [182, 0, 187, 154, 0, 5, 3, 172, 42, 180, 0, 7, 17, 9, 191, 46, 60, 42, 180, 0, 7, 17, 9, 192]
abbrev dktX6_aCouple_2 : List UInt8 := dkwX6_aCouple_2 ++ dktX6_aCouple_3
def dkwX6_aCouple_1 : List UInt8 := [2, 17, 9, 191, 182, 0, 187, 153, 0, 21, 42, 42, 180, 0, 7, 17, 9, 191, 46, 17, 9, 192]
abbrev dktX6_aCouple_1 : List UInt8 := dkwX6_aCouple_1 ++ dktX6_aCouple_2
def dkwX6_aCouple_0 : List UInt8 := [42, 180, 0, 7, 17, 7, 209, 46, 6, 160, 0, 10, 42, 16, 6, 182, 0, 157, 172, 42, 182, 0, 151, 42]
abbrev dktX6_aCouple_0 : List UInt8 := dkwX6_aCouple_0 ++ dktX6_aCouple_1
theorem dksX6_aCouple_0 : cX6_aCouple.data.toList.drop 0 = dktX6_aCouple_0 := by decide +kernel
theorem dksX6_aCouple_1 : cX6_aCouple.data.toList.drop 24 = dktX6_aCouple_1 := dk_seg dksX6_aCouple_0 24 rfl rfl
theorem dksX6_aCouple_2 : cX6_aCouple.data.toList.drop 46 = dktX6_aCouple_2 := dk_seg dksX6_aCouple_1 22 rfl rfl
theorem dksX6_aCouple_3 : cX6_aCouple.data.toList.drop 70 = dktX6_aCouple_3 := dk_seg dksX6_aCouple_2 24 rfl rfl
theorem dksX6_aCouple_4 : cX6_aCouple.data.toList.drop 92 = dktX6_aCouple_4 := dk_seg dksX6_aCouple_3 22 rfl rfl
theorem dksX6_aCouple_5 : cX6_aCouple.data.toList.drop 116 = dktX6_aCouple_5 := dk_seg dksX6_aCouple_4 24 rfl rfl
theorem dX6_aCouple_0 : decode cX6_aCouple 0 = .ok (.aload_n 0, 1) := dk_42 (dk_at dksX6_aCouple_0 0 rfl rfl)
theorem dX6_aCouple_1 : decode cX6_aCouple 1 = .ok (.getfield 7, 3) := dk_180 0 7 (dk_at dksX6_aCouple_0 1 rfl rfl)
theorem dX6_aCouple_4 : decode cX6_aCouple 4 = .ok (.sipush 2001, 3) := dk_17 7 209 (dk_at dksX6_aCouple_0 4 rfl rfl)
theorem dX6_aCouple_7 : decode cX6_aCouple 7 = .ok (.iaload, 1) := dk_46 (dk_at dksX6_aCouple_0 7 rfl rfl)
theorem dX6_aCouple_8 : decode cX6_aCouple 8 = .ok (.iconst 3, 1) := dk_6 (dk_at dksX6_aCouple_0 8 rfl rfl)
theorem dX6_aCouple_9 : decode cX6_aCouple 9 = .ok (.if_icmp .ne 10, 3) := dk_160 0 10 (dk_at dksX6_aCouple_0 9 rfl rfl)
theorem dX6_aCouple_12 : decode cX6_aCouple 12 = .ok (.aload_n 0, 1) := dk_42 (dk_at dksX6_aCouple_0 12 rfl rfl)
theorem dX6_aCouple_13 : decode cX6_aCouple 13 = .ok (.bipush 6, 2) := dk_16 6 (dk_at dksX6_aCouple_0 13 rfl rfl)
theorem dX6_aCouple_15 : decode cX6_aCouple 15 = .ok (.invokevirtual 157, 3) := dk_182 0 157 (dk_at dksX6_aCouple_0 15 rfl rfl)
theorem dX6_aCouple_18 : decode cX6_aCouple 18 = .ok (.ireturn, 1) := dk_172 (dk_at dksX6_aCouple_0 18 rfl rfl)
theorem dX6_aCouple_19 : decode cX6_aCouple 19 = .ok (.aload_n 0, 1) := dk_42 (dk_at dksX6_aCouple_0 19 rfl rfl)
theorem dX6_aCouple_20 : decode cX6_aCouple 20 = .ok (.invokevirtual 151, 3) := dk_182 0 151 (dk_at dksX6_aCouple_0 20 rfl rfl)
theorem dX6_aCouple_23 : decode cX6_aCouple 23 = .ok (.aload_n 0, 1) := dk_42 (dk_at dksX6_aCouple_0 23 rfl rfl)
theorem dX6_aCouple_24 : decode cX6_aCouple 24 = .ok (.iconst (-1), 1) := dk_2 (dk_at dksX6_aCouple_1 0 rfl rfl)
theorem dX6_aCouple_25 : decode cX6_aCouple 25 = .ok (.sipush 2495, 3) := dk_17 9 191 (dk_at dksX6_aCouple_1 1 rfl rfl)
theorem dX6_aCouple_28 : decode cX6_aCouple 28 = .ok (.invokevirtual 187, 3) := dk_182 0 187 (dk_at dksX6_aCouple_1 4 rfl rfl)
theorem dX6_aCouple_31 : decode cX6_aCouple 31 = .ok (.ifCond .eq 21, 3) := dk_153 0 21 (dk_at dksX6_aCouple_1 7 rfl rfl)
theorem dX6_aCouple_34 : decode cX6_aCouple 34 = .ok (.aload_n 0, 1) := dk_42 (dk_at dksX6_aCouple_1 10 rfl rfl)
theorem dX6_aCouple_35 : decode cX6_aCouple 35 = .ok (.aload_n 0, 1) := dk_42 (dk_at dksX6_aCouple_1 11 rfl rfl)
theorem dX6_aCouple_36 : decode cX6_aCouple 36 = .ok (.getfield 7, 3) := dk_180 0 7 (dk_at dksX6_aCouple_1 12 rfl rfl)
theorem dX6_aCouple_39 : decode cX6_aCouple 39 = .ok (.sipush 2495, 3) := dk_17 9 191 (dk_at dksX6_aCouple_1 15 rfl rfl)
theorem dX6_aCouple_42 : decode cX6_aCouple 42 = .ok (.iaload, 1) := dk_46 (dk_at dksX6_aCouple_1 18 rfl rfl)
theorem dX6_aCouple_43 : decode cX6_aCouple 43 = .ok (.sipush 2496, 3) := dk_17 9 192 (dk_at dksX6_aCouple_1 19 rfl rfl)
theorem dX6_aCouple_46 : decode cX6_aCouple 46 = .ok (.invokevirtual 187, 3) := dk_182 0 187 (dk_at dksX6_aCouple_2 0 rfl rfl)
theorem dX6_aCouple_49 : decode cX6_aCouple 49 = .ok (.ifCond .ne 5, 3) := dk_154 0 5 (dk_at dksX6_aCouple_2 3 rfl rfl)
theorem dX6_aCouple_52 : decode cX6_aCouple 52 = .ok (.iconst 0, 1) := dk_3 (dk_at dksX6_aCouple_2 6 rfl rfl)
theorem dX6_aCouple_53 : decode cX6_aCouple 53 = .ok (.ireturn, 1) := dk_172 (dk_at dksX6_aCouple_2 7 rfl rfl)
theorem dX6_aCouple_54 : decode cX6_aCouple 54 = .ok (.aload_n 0, 1) := dk_42 (dk_at dksX6_aCouple_2 8 rfl rfl)
theorem dX6_aCouple_55 : decode cX6_aCouple 55 = .ok (.getfield 7, 3) := dk_180 0 7 (dk_at dksX6_aCouple_2 9 rfl rfl)
theorem dX6_aCouple_58 : decode cX6_aCouple 58 = .ok (.sipush 2495, 3) := dk_17 9 191 (dk_at dksX6_aCouple_2 12 rfl rfl)
theorem dX6_aCouple_61 : decode cX6_aCouple 61 = .ok (.iaload, 1) := dk_46 (dk_at dksX6_aCouple_2 15 rfl rfl)
theorem dX6_aCouple_62 : decode cX6_aCouple 62 = .ok (.istore_n 1, 1) := dk_60 (dk_at dksX6_aCouple_2 16 rfl rfl)
theorem dX6_aCouple_63 : decode cX6_aCouple 63 = .ok (.aload_n 0, 1) := dk_42 (dk_at dksX6_aCouple_2 17 rfl rfl)
theorem dX6_aCouple_64 : decode cX6_aCouple 64 = .ok (.getfield 7, 3) := dk_180 0 7 (dk_at dksX6_aCouple_2 18 rfl rfl)
theorem dX6_aCouple_67 : decode cX6_aCouple 67 = .ok (.sipush 2496, 3) := dk_17 9 192 (dk_at dksX6_aCouple_2 21 rfl rfl)
theorem dX6_aCouple_70 : decode cX6_aCouple 70 = .ok (.iaload, 1) := dk_46 (dk_at dksX6_aCouple_3 0 rfl rfl)
theorem dX6_aCouple_71 : decode cX6_aCouple 71 = .ok (.istore_n 2, 1) := dk_61 (dk_at dksX6_aCouple_3 1 rfl rfl)
theorem dX6_aCouple_72 : decode cX6_aCouple 72 = .ok (.aload_n 0, 1) := dk_42 (dk_at dksX6_aCouple_3 2 rfl rfl)
theorem dX6_aCouple_73 : decode cX6_aCouple 73 = .ok (.getfield 7, 3) := dk_180 0 7 (dk_at dksX6_aCouple_3 3 rfl rfl)
theorem dX6_aCouple_76 : decode cX6_aCouple 76 = .ok (.sipush 2012, 3) := dk_17 7 220 (dk_at dksX6_aCouple_3 6 rfl rfl)
theorem dX6_aCouple_79 : decode cX6_aCouple 79 = .ok (.bipush 8, 2) := dk_16 8 (dk_at dksX6_aCouple_3 9 rfl rfl)
theorem dX6_aCouple_81 : decode cX6_aCouple 81 = .ok (.iload_n 1, 1) := dk_27 (dk_at dksX6_aCouple_3 11 rfl rfl)
theorem dX6_aCouple_82 : decode cX6_aCouple 82 = .ok (.imul, 1) := dk_104 (dk_at dksX6_aCouple_3 12 rfl rfl)
theorem dX6_aCouple_83 : decode cX6_aCouple 83 = .ok (.iadd, 1) := dk_96 (dk_at dksX6_aCouple_3 13 rfl rfl)
theorem dX6_aCouple_84 : decode cX6_aCouple 84 = .ok (.iconst 4, 1) := dk_7 (dk_at dksX6_aCouple_3 14 rfl rfl)
theorem dX6_aCouple_85 : decode cX6_aCouple 85 = .ok (.iadd, 1) := dk_96 (dk_at dksX6_aCouple_3 15 rfl rfl)
theorem dX6_aCouple_86 : decode cX6_aCouple 86 = .ok (.iload_n 2, 1) := dk_28 (dk_at dksX6_aCouple_3 16 rfl rfl)
theorem dX6_aCouple_87 : decode cX6_aCouple 87 = .ok (.iastore, 1) := dk_79 (dk_at dksX6_aCouple_3 17 rfl rfl)
theorem dX6_aCouple_88 : decode cX6_aCouple 88 = .ok (.aload_n 0, 1) := dk_42 (dk_at dksX6_aCouple_3 18 rfl rfl)
theorem dX6_aCouple_89 : decode cX6_aCouple 89 = .ok (.getfield 7, 3) := dk_180 0 7 (dk_at dksX6_aCouple_3 19 rfl rfl)
theorem dX6_aCouple_92 : decode cX6_aCouple 92 = .ok (.sipush 2012, 3) := dk_17 7 220 (dk_at dksX6_aCouple_4 0 rfl rfl)
theorem dX6_aCouple_95 : decode cX6_aCouple 95 = .ok (.bipush 8, 2) := dk_16 8 (dk_at dksX6_aCouple_4 3 rfl rfl)
theorem dX6_aCouple_97 : decode cX6_aCouple 97 = .ok (.iload_n 2, 1) := dk_28 (dk_at dksX6_aCouple_4 5 rfl rfl)
theorem dX6_aCouple_98 : decode cX6_aCouple 98 = .ok (.imul, 1) := dk_104 (dk_at dksX6_aCouple_4 6 rfl rfl)
theorem dX6_aCouple_99 : decode cX6_aCouple 99 = .ok (.iadd, 1) := dk_96 (dk_at dksX6_aCouple_4 7 rfl rfl)
theorem dX6_aCouple_100 : decode cX6_aCouple 100 = .ok (.iconst 4, 1) := dk_7 (dk_at dksX6_aCouple_4 8 rfl rfl)
theorem dX6_aCouple_101 : decode cX6_aCouple 101 = .ok (.iadd, 1) := dk_96 (dk_at dksX6_aCouple_4 9 rfl rfl)
theorem dX6_aCouple_102 : decode cX6_aCouple 102 = .ok (.iload_n 1, 1) := dk_27 (dk_at dksX6_aCouple_4 10 rfl rfl)
theorem dX6_aCouple_103 : decode cX6_aCouple 103 = .ok (.iastore, 1) := dk_79 (dk_at dksX6_aCouple_4 11 rfl rfl)
theorem dX6_aCouple_104 : decode cX6_aCouple 104 = .ok (.aload_n 0, 1) := dk_42 (dk_at dksX6_aCouple_4 12 rfl rfl)
theorem dX6_aCouple_105 : decode cX6_aCouple 105 = .ok (.getfield 7, 3) := dk_180 0 7 (dk_at dksX6_aCouple_4 13 rfl rfl)
theorem dX6_aCouple_108 : decode cX6_aCouple 108 = .ok (.sipush 2001, 3) := dk_17 7 209 (dk_at dksX6_aCouple_4 16 rfl rfl)
theorem dX6_aCouple_111 : decode cX6_aCouple 111 = .ok (.dup2, 1) := dk_92 (dk_at dksX6_aCouple_4 19 rfl rfl)
theorem dX6_aCouple_112 : decode cX6_aCouple 112 = .ok (.iaload, 1) := dk_46 (dk_at dksX6_aCouple_4 20 rfl rfl)
theorem dX6_aCouple_113 : decode cX6_aCouple 113 = .ok (.iconst 1, 1) := dk_4 (dk_at dksX6_aCouple_4 21 rfl rfl)
theorem dX6_aCouple_114 : decode cX6_aCouple 114 = .ok (.iadd, 1) := dk_96 (dk_at dksX6_aCouple_4 22 rfl rfl)
theorem dX6_aCouple_115 : decode cX6_aCouple 115 = .ok (.iastore, 1) := dk_79 (dk_at dksX6_aCouple_4 23 rfl rfl)
theorem dX6_aCouple_116 : decode cX6_aCouple 116 = .ok (.iconst 1, 1) := dk_4 (dk_at dksX6_aCouple_5 0 rfl rfl)
theorem dX6_aCouple_117 : decode cX6_aCouple 117 = .ok (.ireturn, 1) := dk_172 (dk_at dksX6_aCouple_5 1 rfl rfl)
abbrev cX6_mate : ByteArray := prog_16_method_41_code
def yX6_mate : MethodName := ⟨RX6, "mate", "(II)Z"⟩
def dkwX6_mate_3 : List UInt8 := [182, 0, 177, 172]
abbrev dktX6_mate_3 : List UInt8 := dkwX6_mate_3 ++ []
def dkwX6_mate_2 : List UInt8 := [46, 2, 159, 0, 9, 42, 8, 182, 0, 157, 172, 42, 16, 24, 42, 180, 0, 7, 17, 7, 208, 46, 28]
abbrev dktX6_mate_2 : List UInt8 := dkwX6_mate_2 ++ dktX6_mate_3
def dkwX6_mate_1 : List UInt8 := [29, 2, 159, 0, 33, 29, 27, 159, 0, 22, 42, 180, 0, 7, 17, 7, 220, 16, 8, 29, 104, 96, 7, 96]
abbrev dktX6_mate_1 : List UInt8 := dkwX6_mate_1 ++ dktX6_mate_2
def dkwX6_mate_0 : List UInt8 := [42, 18, 168, 182, 0, 170, 153, 0, 53, 42, 16, 24, 42, 180, 0, 7, 17, 7, 208, 46, 182, 0, 174, 62]
abbrev dktX6_mate_0 : List UInt8 := dkwX6_mate_0 ++ dktX6_mate_1
theorem dksX6_mate_0 : cX6_mate.data.toList.drop 0 = dktX6_mate_0 := by decide +kernel
theorem dksX6_mate_1 : cX6_mate.data.toList.drop 24 = dktX6_mate_1 := dk_seg dksX6_mate_0 24 rfl rfl
theorem dksX6_mate_2 : cX6_mate.data.toList.drop 48 = dktX6_mate_2 := dk_seg dksX6_mate_1 24 rfl rfl
theorem dksX6_mate_3 : cX6_mate.data.toList.drop 71 = dktX6_mate_3 := dk_seg dksX6_mate_2 23 rfl rfl
theorem dX6_mate_0 : decode cX6_mate 0 = .ok (.aload_n 0, 1) := dk_42 (dk_at dksX6_mate_0 0 rfl rfl)
theorem dX6_mate_1 : decode cX6_mate 1 = .ok (.ldc 168, 2) := dk_18 168 (dk_at dksX6_mate_0 1 rfl rfl)
theorem dX6_mate_3 : decode cX6_mate 3 = .ok (.invokevirtual 170, 3) := dk_182 0 170 (dk_at dksX6_mate_0 3 rfl rfl)
theorem dX6_mate_6 : decode cX6_mate 6 = .ok (.ifCond .eq 53, 3) := dk_153 0 53 (dk_at dksX6_mate_0 6 rfl rfl)
theorem dX6_mate_9 : decode cX6_mate 9 = .ok (.aload_n 0, 1) := dk_42 (dk_at dksX6_mate_0 9 rfl rfl)
theorem dX6_mate_10 : decode cX6_mate 10 = .ok (.bipush 24, 2) := dk_16 24 (dk_at dksX6_mate_0 10 rfl rfl)
theorem dX6_mate_12 : decode cX6_mate 12 = .ok (.aload_n 0, 1) := dk_42 (dk_at dksX6_mate_0 12 rfl rfl)
theorem dX6_mate_13 : decode cX6_mate 13 = .ok (.getfield 7, 3) := dk_180 0 7 (dk_at dksX6_mate_0 13 rfl rfl)
theorem dX6_mate_16 : decode cX6_mate 16 = .ok (.sipush 2000, 3) := dk_17 7 208 (dk_at dksX6_mate_0 16 rfl rfl)
theorem dX6_mate_19 : decode cX6_mate 19 = .ok (.iaload, 1) := dk_46 (dk_at dksX6_mate_0 19 rfl rfl)
theorem dX6_mate_20 : decode cX6_mate 20 = .ok (.invokevirtual 174, 3) := dk_182 0 174 (dk_at dksX6_mate_0 20 rfl rfl)
theorem dX6_mate_23 : decode cX6_mate 23 = .ok (.istore_n 3, 1) := dk_62 (dk_at dksX6_mate_0 23 rfl rfl)
theorem dX6_mate_24 : decode cX6_mate 24 = .ok (.iload_n 3, 1) := dk_29 (dk_at dksX6_mate_1 0 rfl rfl)
theorem dX6_mate_25 : decode cX6_mate 25 = .ok (.iconst (-1), 1) := dk_2 (dk_at dksX6_mate_1 1 rfl rfl)
theorem dX6_mate_26 : decode cX6_mate 26 = .ok (.if_icmp .eq 33, 3) := dk_159 0 33 (dk_at dksX6_mate_1 2 rfl rfl)
theorem dX6_mate_29 : decode cX6_mate 29 = .ok (.iload_n 3, 1) := dk_29 (dk_at dksX6_mate_1 5 rfl rfl)
theorem dX6_mate_30 : decode cX6_mate 30 = .ok (.iload_n 1, 1) := dk_27 (dk_at dksX6_mate_1 6 rfl rfl)
theorem dX6_mate_31 : decode cX6_mate 31 = .ok (.if_icmp .eq 22, 3) := dk_159 0 22 (dk_at dksX6_mate_1 7 rfl rfl)
theorem dX6_mate_34 : decode cX6_mate 34 = .ok (.aload_n 0, 1) := dk_42 (dk_at dksX6_mate_1 10 rfl rfl)
theorem dX6_mate_35 : decode cX6_mate 35 = .ok (.getfield 7, 3) := dk_180 0 7 (dk_at dksX6_mate_1 11 rfl rfl)
theorem dX6_mate_38 : decode cX6_mate 38 = .ok (.sipush 2012, 3) := dk_17 7 220 (dk_at dksX6_mate_1 14 rfl rfl)
theorem dX6_mate_41 : decode cX6_mate 41 = .ok (.bipush 8, 2) := dk_16 8 (dk_at dksX6_mate_1 17 rfl rfl)
theorem dX6_mate_43 : decode cX6_mate 43 = .ok (.iload_n 3, 1) := dk_29 (dk_at dksX6_mate_1 19 rfl rfl)
theorem dX6_mate_44 : decode cX6_mate 44 = .ok (.imul, 1) := dk_104 (dk_at dksX6_mate_1 20 rfl rfl)
theorem dX6_mate_45 : decode cX6_mate 45 = .ok (.iadd, 1) := dk_96 (dk_at dksX6_mate_1 21 rfl rfl)
theorem dX6_mate_46 : decode cX6_mate 46 = .ok (.iconst 4, 1) := dk_7 (dk_at dksX6_mate_1 22 rfl rfl)
theorem dX6_mate_47 : decode cX6_mate 47 = .ok (.iadd, 1) := dk_96 (dk_at dksX6_mate_1 23 rfl rfl)
theorem dX6_mate_48 : decode cX6_mate 48 = .ok (.iaload, 1) := dk_46 (dk_at dksX6_mate_2 0 rfl rfl)
theorem dX6_mate_49 : decode cX6_mate 49 = .ok (.iconst (-1), 1) := dk_2 (dk_at dksX6_mate_2 1 rfl rfl)
theorem dX6_mate_50 : decode cX6_mate 50 = .ok (.if_icmp .eq 9, 3) := dk_159 0 9 (dk_at dksX6_mate_2 2 rfl rfl)
theorem dX6_mate_53 : decode cX6_mate 53 = .ok (.aload_n 0, 1) := dk_42 (dk_at dksX6_mate_2 5 rfl rfl)
theorem dX6_mate_54 : decode cX6_mate 54 = .ok (.iconst 5, 1) := dk_8 (dk_at dksX6_mate_2 6 rfl rfl)
theorem dX6_mate_55 : decode cX6_mate 55 = .ok (.invokevirtual 157, 3) := dk_182 0 157 (dk_at dksX6_mate_2 7 rfl rfl)
theorem dX6_mate_58 : decode cX6_mate 58 = .ok (.ireturn, 1) := dk_172 (dk_at dksX6_mate_2 10 rfl rfl)
theorem dX6_mate_59 : decode cX6_mate 59 = .ok (.aload_n 0, 1) := dk_42 (dk_at dksX6_mate_2 11 rfl rfl)
theorem dX6_mate_60 : decode cX6_mate 60 = .ok (.bipush 24, 2) := dk_16 24 (dk_at dksX6_mate_2 12 rfl rfl)
theorem dX6_mate_62 : decode cX6_mate 62 = .ok (.aload_n 0, 1) := dk_42 (dk_at dksX6_mate_2 14 rfl rfl)
theorem dX6_mate_63 : decode cX6_mate 63 = .ok (.getfield 7, 3) := dk_180 0 7 (dk_at dksX6_mate_2 15 rfl rfl)
theorem dX6_mate_66 : decode cX6_mate 66 = .ok (.sipush 2000, 3) := dk_17 7 208 (dk_at dksX6_mate_2 18 rfl rfl)
theorem dX6_mate_69 : decode cX6_mate 69 = .ok (.iaload, 1) := dk_46 (dk_at dksX6_mate_2 21 rfl rfl)
theorem dX6_mate_70 : decode cX6_mate 70 = .ok (.iload_n 2, 1) := dk_28 (dk_at dksX6_mate_2 22 rfl rfl)
theorem dX6_mate_71 : decode cX6_mate 71 = .ok (.invokevirtual 177, 3) := dk_182 0 177 (dk_at dksX6_mate_3 0 rfl rfl)
theorem dX6_mate_74 : decode cX6_mate 74 = .ok (.ireturn, 1) := dk_172 (dk_at dksX6_mate_3 3 rfl rfl)
abbrev cX6_oldOne : ByteArray := prog_16_method_38_code
def yX6_oldOne : MethodName := ⟨RX6, "oldOne", "(III)Z"⟩
def dkwX6_oldOne_2 : List UInt8 := [4, 172]
abbrev dktX6_oldOne_2 : List UInt8 := dkwX6_oldOne_2 ++ []
def dkwX6_oldOne_1 : List UInt8 := [182, 0, 174, 79, 42, 180, 0, 7, 29, 46, 2, 160, 0, 9, 42, 6, 182, 0, 157, 172, 42, 182, 0, 151]
abbrev dktX6_oldOne_1 : List UInt8 := dkwX6_oldOne_1 ++ dktX6_oldOne_2
def dkwX6_oldOne_0 : List UInt8 := [42, 18, 168, 182, 0, 170, 154, 0, 9, 42, 5, 182, 0, 157, 172, 42, 180, 0, 7, 29, 42, 27, 28]
abbrev dktX6_oldOne_0 : List UInt8 := dkwX6_oldOne_0 ++ dktX6_oldOne_1
theorem dksX6_oldOne_0 : cX6_oldOne.data.toList.drop 0 = dktX6_oldOne_0 := by decide +kernel
theorem dksX6_oldOne_1 : cX6_oldOne.data.toList.drop 23 = dktX6_oldOne_1 := dk_seg dksX6_oldOne_0 23 rfl rfl
theorem dksX6_oldOne_2 : cX6_oldOne.data.toList.drop 47 = dktX6_oldOne_2 := dk_seg dksX6_oldOne_1 24 rfl rfl
theorem dX6_oldOne_0 : decode cX6_oldOne 0 = .ok (.aload_n 0, 1) := dk_42 (dk_at dksX6_oldOne_0 0 rfl rfl)
theorem dX6_oldOne_1 : decode cX6_oldOne 1 = .ok (.ldc 168, 2) := dk_18 168 (dk_at dksX6_oldOne_0 1 rfl rfl)
theorem dX6_oldOne_3 : decode cX6_oldOne 3 = .ok (.invokevirtual 170, 3) := dk_182 0 170 (dk_at dksX6_oldOne_0 3 rfl rfl)
theorem dX6_oldOne_6 : decode cX6_oldOne 6 = .ok (.ifCond .ne 9, 3) := dk_154 0 9 (dk_at dksX6_oldOne_0 6 rfl rfl)
theorem dX6_oldOne_9 : decode cX6_oldOne 9 = .ok (.aload_n 0, 1) := dk_42 (dk_at dksX6_oldOne_0 9 rfl rfl)
theorem dX6_oldOne_10 : decode cX6_oldOne 10 = .ok (.iconst 2, 1) := dk_5 (dk_at dksX6_oldOne_0 10 rfl rfl)
theorem dX6_oldOne_11 : decode cX6_oldOne 11 = .ok (.invokevirtual 157, 3) := dk_182 0 157 (dk_at dksX6_oldOne_0 11 rfl rfl)
theorem dX6_oldOne_14 : decode cX6_oldOne 14 = .ok (.ireturn, 1) := dk_172 (dk_at dksX6_oldOne_0 14 rfl rfl)
theorem dX6_oldOne_15 : decode cX6_oldOne 15 = .ok (.aload_n 0, 1) := dk_42 (dk_at dksX6_oldOne_0 15 rfl rfl)
theorem dX6_oldOne_16 : decode cX6_oldOne 16 = .ok (.getfield 7, 3) := dk_180 0 7 (dk_at dksX6_oldOne_0 16 rfl rfl)
theorem dX6_oldOne_19 : decode cX6_oldOne 19 = .ok (.iload_n 3, 1) := dk_29 (dk_at dksX6_oldOne_0 19 rfl rfl)
theorem dX6_oldOne_20 : decode cX6_oldOne 20 = .ok (.aload_n 0, 1) := dk_42 (dk_at dksX6_oldOne_0 20 rfl rfl)
theorem dX6_oldOne_21 : decode cX6_oldOne 21 = .ok (.iload_n 1, 1) := dk_27 (dk_at dksX6_oldOne_0 21 rfl rfl)
theorem dX6_oldOne_22 : decode cX6_oldOne 22 = .ok (.iload_n 2, 1) := dk_28 (dk_at dksX6_oldOne_0 22 rfl rfl)
theorem dX6_oldOne_23 : decode cX6_oldOne 23 = .ok (.invokevirtual 174, 3) := dk_182 0 174 (dk_at dksX6_oldOne_1 0 rfl rfl)
theorem dX6_oldOne_26 : decode cX6_oldOne 26 = .ok (.iastore, 1) := dk_79 (dk_at dksX6_oldOne_1 3 rfl rfl)
theorem dX6_oldOne_27 : decode cX6_oldOne 27 = .ok (.aload_n 0, 1) := dk_42 (dk_at dksX6_oldOne_1 4 rfl rfl)
theorem dX6_oldOne_28 : decode cX6_oldOne 28 = .ok (.getfield 7, 3) := dk_180 0 7 (dk_at dksX6_oldOne_1 5 rfl rfl)
theorem dX6_oldOne_31 : decode cX6_oldOne 31 = .ok (.iload_n 3, 1) := dk_29 (dk_at dksX6_oldOne_1 8 rfl rfl)
theorem dX6_oldOne_32 : decode cX6_oldOne 32 = .ok (.iaload, 1) := dk_46 (dk_at dksX6_oldOne_1 9 rfl rfl)
theorem dX6_oldOne_33 : decode cX6_oldOne 33 = .ok (.iconst (-1), 1) := dk_2 (dk_at dksX6_oldOne_1 10 rfl rfl)
theorem dX6_oldOne_34 : decode cX6_oldOne 34 = .ok (.if_icmp .ne 9, 3) := dk_160 0 9 (dk_at dksX6_oldOne_1 11 rfl rfl)
theorem dX6_oldOne_37 : decode cX6_oldOne 37 = .ok (.aload_n 0, 1) := dk_42 (dk_at dksX6_oldOne_1 14 rfl rfl)
theorem dX6_oldOne_38 : decode cX6_oldOne 38 = .ok (.iconst 3, 1) := dk_6 (dk_at dksX6_oldOne_1 15 rfl rfl)
theorem dX6_oldOne_39 : decode cX6_oldOne 39 = .ok (.invokevirtual 157, 3) := dk_182 0 157 (dk_at dksX6_oldOne_1 16 rfl rfl)
theorem dX6_oldOne_42 : decode cX6_oldOne 42 = .ok (.ireturn, 1) := dk_172 (dk_at dksX6_oldOne_1 19 rfl rfl)
theorem dX6_oldOne_43 : decode cX6_oldOne 43 = .ok (.aload_n 0, 1) := dk_42 (dk_at dksX6_oldOne_1 20 rfl rfl)
theorem dX6_oldOne_44 : decode cX6_oldOne 44 = .ok (.invokevirtual 151, 3) := dk_182 0 151 (dk_at dksX6_oldOne_1 21 rfl rfl)
theorem dX6_oldOne_47 : decode cX6_oldOne 47 = .ok (.iconst 1, 1) := dk_4 (dk_at dksX6_oldOne_2 0 rfl rfl)
theorem dX6_oldOne_48 : decode cX6_oldOne 48 = .ok (.ireturn, 1) := dk_172 (dk_at dksX6_oldOne_2 1 rfl rfl)
abbrev cX6_aDish : ByteArray := prog_16_method_43_code
def yX6_aDish : MethodName := ⟨RX6, "aDish", "()Z"⟩
def dkwX6_aDish_4 : List UInt8 := [172, 42, 180, 0, 7, 17, 7, 210, 92, 46, 4, 96, 79, 4, 172]
abbrev dktX6_aDish_4 : List UInt8 := dkwX6_aDish_4 ++ []
def dkwX6_aDish_3 : List UInt8 := [153, 0, 25, 42, 16, 24, 42, 180, 0, 7, 17, 7, 208, 46, 27, 4, 96, 182, 0, 177, 154, 0, 5, 3]
abbrev dktX6_aDish_3 : List UInt8 := dkwX6_aDish_3 ++ dktX6_aDish_4
def dkwX6_aDish_2 : List UInt8 := [182, 0, 184, 154, 0, 5, 3, 172, 42, 180, 0, 7, 27, 4, 96, 2, 79, 42, 16, 11, 182, 0, 181]
abbrev dktX6_aDish_2 : List UInt8 := dkwX6_aDish_2 ++ dktX6_aDish_3
def dkwX6_aDish_1 : List UInt8 := [16, 16, 160, 0, 10, 42, 16, 6, 182, 0, 157, 172, 42, 182, 0, 151, 42, 27, 4, 17, 3, 231]
abbrev dktX6_aDish_1 : List UInt8 := dkwX6_aDish_1 ++ dktX6_aDish_2
def dkwX6_aDish_0 : List UInt8 := [17, 8, 12, 5, 42, 180, 0, 7, 17, 7, 210, 46, 104, 96, 60, 42, 180, 0, 7, 17, 7, 210, 46]
abbrev dktX6_aDish_0 : List UInt8 := dkwX6_aDish_0 ++ dktX6_aDish_1
theorem dksX6_aDish_0 : cX6_aDish.data.toList.drop 0 = dktX6_aDish_0 := by decide +kernel
theorem dksX6_aDish_1 : cX6_aDish.data.toList.drop 23 = dktX6_aDish_1 := dk_seg dksX6_aDish_0 23 rfl rfl
theorem dksX6_aDish_2 : cX6_aDish.data.toList.drop 45 = dktX6_aDish_2 := dk_seg dksX6_aDish_1 22 rfl rfl
theorem dksX6_aDish_3 : cX6_aDish.data.toList.drop 68 = dktX6_aDish_3 := dk_seg dksX6_aDish_2 23 rfl rfl
theorem dksX6_aDish_4 : cX6_aDish.data.toList.drop 92 = dktX6_aDish_4 := dk_seg dksX6_aDish_3 24 rfl rfl
theorem dX6_aDish_0 : decode cX6_aDish 0 = .ok (.sipush 2060, 3) := dk_17 8 12 (dk_at dksX6_aDish_0 0 rfl rfl)
theorem dX6_aDish_3 : decode cX6_aDish 3 = .ok (.iconst 2, 1) := dk_5 (dk_at dksX6_aDish_0 3 rfl rfl)
theorem dX6_aDish_4 : decode cX6_aDish 4 = .ok (.aload_n 0, 1) := dk_42 (dk_at dksX6_aDish_0 4 rfl rfl)
theorem dX6_aDish_5 : decode cX6_aDish 5 = .ok (.getfield 7, 3) := dk_180 0 7 (dk_at dksX6_aDish_0 5 rfl rfl)
theorem dX6_aDish_8 : decode cX6_aDish 8 = .ok (.sipush 2002, 3) := dk_17 7 210 (dk_at dksX6_aDish_0 8 rfl rfl)
theorem dX6_aDish_11 : decode cX6_aDish 11 = .ok (.iaload, 1) := dk_46 (dk_at dksX6_aDish_0 11 rfl rfl)
theorem dX6_aDish_12 : decode cX6_aDish 12 = .ok (.imul, 1) := dk_104 (dk_at dksX6_aDish_0 12 rfl rfl)
theorem dX6_aDish_13 : decode cX6_aDish 13 = .ok (.iadd, 1) := dk_96 (dk_at dksX6_aDish_0 13 rfl rfl)
theorem dX6_aDish_14 : decode cX6_aDish 14 = .ok (.istore_n 1, 1) := dk_60 (dk_at dksX6_aDish_0 14 rfl rfl)
theorem dX6_aDish_15 : decode cX6_aDish 15 = .ok (.aload_n 0, 1) := dk_42 (dk_at dksX6_aDish_0 15 rfl rfl)
theorem dX6_aDish_16 : decode cX6_aDish 16 = .ok (.getfield 7, 3) := dk_180 0 7 (dk_at dksX6_aDish_0 16 rfl rfl)
theorem dX6_aDish_19 : decode cX6_aDish 19 = .ok (.sipush 2002, 3) := dk_17 7 210 (dk_at dksX6_aDish_0 19 rfl rfl)
theorem dX6_aDish_22 : decode cX6_aDish 22 = .ok (.iaload, 1) := dk_46 (dk_at dksX6_aDish_0 22 rfl rfl)
theorem dX6_aDish_23 : decode cX6_aDish 23 = .ok (.bipush 16, 2) := dk_16 16 (dk_at dksX6_aDish_1 0 rfl rfl)
theorem dX6_aDish_25 : decode cX6_aDish 25 = .ok (.if_icmp .ne 10, 3) := dk_160 0 10 (dk_at dksX6_aDish_1 2 rfl rfl)
theorem dX6_aDish_28 : decode cX6_aDish 28 = .ok (.aload_n 0, 1) := dk_42 (dk_at dksX6_aDish_1 5 rfl rfl)
theorem dX6_aDish_29 : decode cX6_aDish 29 = .ok (.bipush 6, 2) := dk_16 6 (dk_at dksX6_aDish_1 6 rfl rfl)
theorem dX6_aDish_31 : decode cX6_aDish 31 = .ok (.invokevirtual 157, 3) := dk_182 0 157 (dk_at dksX6_aDish_1 8 rfl rfl)
theorem dX6_aDish_34 : decode cX6_aDish 34 = .ok (.ireturn, 1) := dk_172 (dk_at dksX6_aDish_1 11 rfl rfl)
theorem dX6_aDish_35 : decode cX6_aDish 35 = .ok (.aload_n 0, 1) := dk_42 (dk_at dksX6_aDish_1 12 rfl rfl)
theorem dX6_aDish_36 : decode cX6_aDish 36 = .ok (.invokevirtual 151, 3) := dk_182 0 151 (dk_at dksX6_aDish_1 13 rfl rfl)
theorem dX6_aDish_39 : decode cX6_aDish 39 = .ok (.aload_n 0, 1) := dk_42 (dk_at dksX6_aDish_1 16 rfl rfl)
theorem dX6_aDish_40 : decode cX6_aDish 40 = .ok (.iload_n 1, 1) := dk_27 (dk_at dksX6_aDish_1 17 rfl rfl)
theorem dX6_aDish_41 : decode cX6_aDish 41 = .ok (.iconst 1, 1) := dk_4 (dk_at dksX6_aDish_1 18 rfl rfl)
theorem dX6_aDish_42 : decode cX6_aDish 42 = .ok (.sipush 999, 3) := dk_17 3 231 (dk_at dksX6_aDish_1 19 rfl rfl)
theorem dX6_aDish_45 : decode cX6_aDish 45 = .ok (.invokevirtual 184, 3) := dk_182 0 184 (dk_at dksX6_aDish_2 0 rfl rfl)
theorem dX6_aDish_48 : decode cX6_aDish 48 = .ok (.ifCond .ne 5, 3) := dk_154 0 5 (dk_at dksX6_aDish_2 3 rfl rfl)
theorem dX6_aDish_51 : decode cX6_aDish 51 = .ok (.iconst 0, 1) := dk_3 (dk_at dksX6_aDish_2 6 rfl rfl)
theorem dX6_aDish_52 : decode cX6_aDish 52 = .ok (.ireturn, 1) := dk_172 (dk_at dksX6_aDish_2 7 rfl rfl)
theorem dX6_aDish_53 : decode cX6_aDish 53 = .ok (.aload_n 0, 1) := dk_42 (dk_at dksX6_aDish_2 8 rfl rfl)
theorem dX6_aDish_54 : decode cX6_aDish 54 = .ok (.getfield 7, 3) := dk_180 0 7 (dk_at dksX6_aDish_2 9 rfl rfl)
theorem dX6_aDish_57 : decode cX6_aDish 57 = .ok (.iload_n 1, 1) := dk_27 (dk_at dksX6_aDish_2 12 rfl rfl)
theorem dX6_aDish_58 : decode cX6_aDish 58 = .ok (.iconst 1, 1) := dk_4 (dk_at dksX6_aDish_2 13 rfl rfl)
theorem dX6_aDish_59 : decode cX6_aDish 59 = .ok (.iadd, 1) := dk_96 (dk_at dksX6_aDish_2 14 rfl rfl)
theorem dX6_aDish_60 : decode cX6_aDish 60 = .ok (.iconst (-1), 1) := dk_2 (dk_at dksX6_aDish_2 15 rfl rfl)
theorem dX6_aDish_61 : decode cX6_aDish 61 = .ok (.iastore, 1) := dk_79 (dk_at dksX6_aDish_2 16 rfl rfl)
theorem dX6_aDish_62 : decode cX6_aDish 62 = .ok (.aload_n 0, 1) := dk_42 (dk_at dksX6_aDish_2 17 rfl rfl)
theorem dX6_aDish_63 : decode cX6_aDish 63 = .ok (.bipush 11, 2) := dk_16 11 (dk_at dksX6_aDish_2 18 rfl rfl)
theorem dX6_aDish_65 : decode cX6_aDish 65 = .ok (.invokevirtual 181, 3) := dk_182 0 181 (dk_at dksX6_aDish_2 20 rfl rfl)
theorem dX6_aDish_68 : decode cX6_aDish 68 = .ok (.ifCond .eq 25, 3) := dk_153 0 25 (dk_at dksX6_aDish_3 0 rfl rfl)
theorem dX6_aDish_71 : decode cX6_aDish 71 = .ok (.aload_n 0, 1) := dk_42 (dk_at dksX6_aDish_3 3 rfl rfl)
theorem dX6_aDish_72 : decode cX6_aDish 72 = .ok (.bipush 24, 2) := dk_16 24 (dk_at dksX6_aDish_3 4 rfl rfl)
theorem dX6_aDish_74 : decode cX6_aDish 74 = .ok (.aload_n 0, 1) := dk_42 (dk_at dksX6_aDish_3 6 rfl rfl)
theorem dX6_aDish_75 : decode cX6_aDish 75 = .ok (.getfield 7, 3) := dk_180 0 7 (dk_at dksX6_aDish_3 7 rfl rfl)
theorem dX6_aDish_78 : decode cX6_aDish 78 = .ok (.sipush 2000, 3) := dk_17 7 208 (dk_at dksX6_aDish_3 10 rfl rfl)
theorem dX6_aDish_81 : decode cX6_aDish 81 = .ok (.iaload, 1) := dk_46 (dk_at dksX6_aDish_3 13 rfl rfl)
theorem dX6_aDish_82 : decode cX6_aDish 82 = .ok (.iload_n 1, 1) := dk_27 (dk_at dksX6_aDish_3 14 rfl rfl)
theorem dX6_aDish_83 : decode cX6_aDish 83 = .ok (.iconst 1, 1) := dk_4 (dk_at dksX6_aDish_3 15 rfl rfl)
theorem dX6_aDish_84 : decode cX6_aDish 84 = .ok (.iadd, 1) := dk_96 (dk_at dksX6_aDish_3 16 rfl rfl)
theorem dX6_aDish_85 : decode cX6_aDish 85 = .ok (.invokevirtual 177, 3) := dk_182 0 177 (dk_at dksX6_aDish_3 17 rfl rfl)
theorem dX6_aDish_88 : decode cX6_aDish 88 = .ok (.ifCond .ne 5, 3) := dk_154 0 5 (dk_at dksX6_aDish_3 20 rfl rfl)
theorem dX6_aDish_91 : decode cX6_aDish 91 = .ok (.iconst 0, 1) := dk_3 (dk_at dksX6_aDish_3 23 rfl rfl)
theorem dX6_aDish_92 : decode cX6_aDish 92 = .ok (.ireturn, 1) := dk_172 (dk_at dksX6_aDish_4 0 rfl rfl)
theorem dX6_aDish_93 : decode cX6_aDish 93 = .ok (.aload_n 0, 1) := dk_42 (dk_at dksX6_aDish_4 1 rfl rfl)
theorem dX6_aDish_94 : decode cX6_aDish 94 = .ok (.getfield 7, 3) := dk_180 0 7 (dk_at dksX6_aDish_4 2 rfl rfl)
theorem dX6_aDish_97 : decode cX6_aDish 97 = .ok (.sipush 2002, 3) := dk_17 7 210 (dk_at dksX6_aDish_4 5 rfl rfl)
theorem dX6_aDish_100 : decode cX6_aDish 100 = .ok (.dup2, 1) := dk_92 (dk_at dksX6_aDish_4 8 rfl rfl)
theorem dX6_aDish_101 : decode cX6_aDish 101 = .ok (.iaload, 1) := dk_46 (dk_at dksX6_aDish_4 9 rfl rfl)
theorem dX6_aDish_102 : decode cX6_aDish 102 = .ok (.iconst 1, 1) := dk_4 (dk_at dksX6_aDish_4 10 rfl rfl)
theorem dX6_aDish_103 : decode cX6_aDish 103 = .ok (.iadd, 1) := dk_96 (dk_at dksX6_aDish_4 11 rfl rfl)
theorem dX6_aDish_104 : decode cX6_aDish 104 = .ok (.iastore, 1) := dk_79 (dk_at dksX6_aDish_4 12 rfl rfl)
theorem dX6_aDish_105 : decode cX6_aDish 105 = .ok (.iconst 1, 1) := dk_4 (dk_at dksX6_aDish_4 13 rfl rfl)
theorem dX6_aDish_106 : decode cX6_aDish 106 = .ok (.ireturn, 1) := dk_172 (dk_at dksX6_aDish_4 14 rfl rfl)
abbrev cX6_aDebt : ByteArray := prog_16_method_44_code
def yX6_aDebt : MethodName := ⟨RX6, "aDebt", "()Z"⟩
def dkwX6_aDebt_3 : List UInt8 := [3, 17, 39, 15, 182, 0, 184, 172]
abbrev dktX6_aDebt_3 : List UInt8 := dkwX6_aDebt_3 ++ []
def dkwX6_aDebt_2 : List UInt8 := [17, 8, 44, 16, 6, 42, 180, 0, 7, 17, 9, 191, 46, 104, 96, 42, 180, 0, 7, 17, 9, 192, 46, 96]
abbrev dktX6_aDebt_2 : List UInt8 := dkwX6_aDebt_2 ++ dktX6_aDebt_3
def dkwX6_aDebt_1 : List UInt8 := [153, 0, 19, 42, 16, 24, 27, 17, 9, 191, 17, 9, 192, 182, 0, 191, 154, 0, 5, 3, 172, 42]
abbrev dktX6_aDebt_1 : List UInt8 := dkwX6_aDebt_1 ++ dktX6_aDebt_2
def dkwX6_aDebt_0 : List UInt8 := [42, 180, 0, 7, 17, 7, 208, 46, 60, 42, 182, 0, 151, 42, 16, 24, 27, 17, 9, 191, 182, 0, 177]
abbrev dktX6_aDebt_0 : List UInt8 := dkwX6_aDebt_0 ++ dktX6_aDebt_1
theorem dksX6_aDebt_0 : cX6_aDebt.data.toList.drop 0 = dktX6_aDebt_0 := by decide +kernel
theorem dksX6_aDebt_1 : cX6_aDebt.data.toList.drop 23 = dktX6_aDebt_1 := dk_seg dksX6_aDebt_0 23 rfl rfl
theorem dksX6_aDebt_2 : cX6_aDebt.data.toList.drop 45 = dktX6_aDebt_2 := dk_seg dksX6_aDebt_1 22 rfl rfl
theorem dksX6_aDebt_3 : cX6_aDebt.data.toList.drop 69 = dktX6_aDebt_3 := dk_seg dksX6_aDebt_2 24 rfl rfl
theorem dX6_aDebt_0 : decode cX6_aDebt 0 = .ok (.aload_n 0, 1) := dk_42 (dk_at dksX6_aDebt_0 0 rfl rfl)
theorem dX6_aDebt_1 : decode cX6_aDebt 1 = .ok (.getfield 7, 3) := dk_180 0 7 (dk_at dksX6_aDebt_0 1 rfl rfl)
theorem dX6_aDebt_4 : decode cX6_aDebt 4 = .ok (.sipush 2000, 3) := dk_17 7 208 (dk_at dksX6_aDebt_0 4 rfl rfl)
theorem dX6_aDebt_7 : decode cX6_aDebt 7 = .ok (.iaload, 1) := dk_46 (dk_at dksX6_aDebt_0 7 rfl rfl)
theorem dX6_aDebt_8 : decode cX6_aDebt 8 = .ok (.istore_n 1, 1) := dk_60 (dk_at dksX6_aDebt_0 8 rfl rfl)
theorem dX6_aDebt_9 : decode cX6_aDebt 9 = .ok (.aload_n 0, 1) := dk_42 (dk_at dksX6_aDebt_0 9 rfl rfl)
theorem dX6_aDebt_10 : decode cX6_aDebt 10 = .ok (.invokevirtual 151, 3) := dk_182 0 151 (dk_at dksX6_aDebt_0 10 rfl rfl)
theorem dX6_aDebt_13 : decode cX6_aDebt 13 = .ok (.aload_n 0, 1) := dk_42 (dk_at dksX6_aDebt_0 13 rfl rfl)
theorem dX6_aDebt_14 : decode cX6_aDebt 14 = .ok (.bipush 24, 2) := dk_16 24 (dk_at dksX6_aDebt_0 14 rfl rfl)
theorem dX6_aDebt_16 : decode cX6_aDebt 16 = .ok (.iload_n 1, 1) := dk_27 (dk_at dksX6_aDebt_0 16 rfl rfl)
theorem dX6_aDebt_17 : decode cX6_aDebt 17 = .ok (.sipush 2495, 3) := dk_17 9 191 (dk_at dksX6_aDebt_0 17 rfl rfl)
theorem dX6_aDebt_20 : decode cX6_aDebt 20 = .ok (.invokevirtual 177, 3) := dk_182 0 177 (dk_at dksX6_aDebt_0 20 rfl rfl)
theorem dX6_aDebt_23 : decode cX6_aDebt 23 = .ok (.ifCond .eq 19, 3) := dk_153 0 19 (dk_at dksX6_aDebt_1 0 rfl rfl)
theorem dX6_aDebt_26 : decode cX6_aDebt 26 = .ok (.aload_n 0, 1) := dk_42 (dk_at dksX6_aDebt_1 3 rfl rfl)
theorem dX6_aDebt_27 : decode cX6_aDebt 27 = .ok (.bipush 24, 2) := dk_16 24 (dk_at dksX6_aDebt_1 4 rfl rfl)
theorem dX6_aDebt_29 : decode cX6_aDebt 29 = .ok (.iload_n 1, 1) := dk_27 (dk_at dksX6_aDebt_1 6 rfl rfl)
theorem dX6_aDebt_30 : decode cX6_aDebt 30 = .ok (.sipush 2495, 3) := dk_17 9 191 (dk_at dksX6_aDebt_1 7 rfl rfl)
theorem dX6_aDebt_33 : decode cX6_aDebt 33 = .ok (.sipush 2496, 3) := dk_17 9 192 (dk_at dksX6_aDebt_1 10 rfl rfl)
theorem dX6_aDebt_36 : decode cX6_aDebt 36 = .ok (.invokevirtual 191, 3) := dk_182 0 191 (dk_at dksX6_aDebt_1 13 rfl rfl)
theorem dX6_aDebt_39 : decode cX6_aDebt 39 = .ok (.ifCond .ne 5, 3) := dk_154 0 5 (dk_at dksX6_aDebt_1 16 rfl rfl)
theorem dX6_aDebt_42 : decode cX6_aDebt 42 = .ok (.iconst 0, 1) := dk_3 (dk_at dksX6_aDebt_1 19 rfl rfl)
theorem dX6_aDebt_43 : decode cX6_aDebt 43 = .ok (.ireturn, 1) := dk_172 (dk_at dksX6_aDebt_1 20 rfl rfl)
theorem dX6_aDebt_44 : decode cX6_aDebt 44 = .ok (.aload_n 0, 1) := dk_42 (dk_at dksX6_aDebt_1 21 rfl rfl)
theorem dX6_aDebt_45 : decode cX6_aDebt 45 = .ok (.sipush 2092, 3) := dk_17 8 44 (dk_at dksX6_aDebt_2 0 rfl rfl)
theorem dX6_aDebt_48 : decode cX6_aDebt 48 = .ok (.bipush 6, 2) := dk_16 6 (dk_at dksX6_aDebt_2 3 rfl rfl)
theorem dX6_aDebt_50 : decode cX6_aDebt 50 = .ok (.aload_n 0, 1) := dk_42 (dk_at dksX6_aDebt_2 5 rfl rfl)
theorem dX6_aDebt_51 : decode cX6_aDebt 51 = .ok (.getfield 7, 3) := dk_180 0 7 (dk_at dksX6_aDebt_2 6 rfl rfl)
theorem dX6_aDebt_54 : decode cX6_aDebt 54 = .ok (.sipush 2495, 3) := dk_17 9 191 (dk_at dksX6_aDebt_2 9 rfl rfl)
theorem dX6_aDebt_57 : decode cX6_aDebt 57 = .ok (.iaload, 1) := dk_46 (dk_at dksX6_aDebt_2 12 rfl rfl)
theorem dX6_aDebt_58 : decode cX6_aDebt 58 = .ok (.imul, 1) := dk_104 (dk_at dksX6_aDebt_2 13 rfl rfl)
theorem dX6_aDebt_59 : decode cX6_aDebt 59 = .ok (.iadd, 1) := dk_96 (dk_at dksX6_aDebt_2 14 rfl rfl)
theorem dX6_aDebt_60 : decode cX6_aDebt 60 = .ok (.aload_n 0, 1) := dk_42 (dk_at dksX6_aDebt_2 15 rfl rfl)
theorem dX6_aDebt_61 : decode cX6_aDebt 61 = .ok (.getfield 7, 3) := dk_180 0 7 (dk_at dksX6_aDebt_2 16 rfl rfl)
theorem dX6_aDebt_64 : decode cX6_aDebt 64 = .ok (.sipush 2496, 3) := dk_17 9 192 (dk_at dksX6_aDebt_2 19 rfl rfl)
theorem dX6_aDebt_67 : decode cX6_aDebt 67 = .ok (.iaload, 1) := dk_46 (dk_at dksX6_aDebt_2 22 rfl rfl)
theorem dX6_aDebt_68 : decode cX6_aDebt 68 = .ok (.iadd, 1) := dk_96 (dk_at dksX6_aDebt_2 23 rfl rfl)
theorem dX6_aDebt_69 : decode cX6_aDebt 69 = .ok (.iconst 0, 1) := dk_3 (dk_at dksX6_aDebt_3 0 rfl rfl)
theorem dX6_aDebt_70 : decode cX6_aDebt 70 = .ok (.sipush 9999, 3) := dk_17 39 15 (dk_at dksX6_aDebt_3 1 rfl rfl)
theorem dX6_aDebt_73 : decode cX6_aDebt 73 = .ok (.invokevirtual 184, 3) := dk_182 0 184 (dk_at dksX6_aDebt_3 4 rfl rfl)
theorem dX6_aDebt_76 : decode cX6_aDebt 76 = .ok (.ireturn, 1) := dk_172 (dk_at dksX6_aDebt_3 7 rfl rfl)
abbrev cX6_otherOne : ByteArray := prog_16_method_39_code
def yX6_otherOne : MethodName := ⟨RX6, "otherOne", "(IIII)Z"⟩
def dkwX6_otherOne_1 : List UInt8 := [42, 8, 182, 0, 157, 172, 42, 27, 28, 21, 4, 182, 0, 177, 172]
abbrev dktX6_otherOne_1 : List UInt8 := dkwX6_otherOne_1 ++ []
def dkwX6_otherOne_0 : List UInt8 := [42, 18, 168, 182, 0, 170, 153, 0, 24, 42, 27, 28, 182, 0, 174, 42, 180, 0, 7, 29, 46, 160, 0, 9]
abbrev dktX6_otherOne_0 : List UInt8 := dkwX6_otherOne_0 ++ dktX6_otherOne_1
theorem dksX6_otherOne_0 : cX6_otherOne.data.toList.drop 0 = dktX6_otherOne_0 := by decide +kernel
theorem dksX6_otherOne_1 : cX6_otherOne.data.toList.drop 24 = dktX6_otherOne_1 := dk_seg dksX6_otherOne_0 24 rfl rfl
theorem dX6_otherOne_0 : decode cX6_otherOne 0 = .ok (.aload_n 0, 1) := dk_42 (dk_at dksX6_otherOne_0 0 rfl rfl)
theorem dX6_otherOne_1 : decode cX6_otherOne 1 = .ok (.ldc 168, 2) := dk_18 168 (dk_at dksX6_otherOne_0 1 rfl rfl)
theorem dX6_otherOne_3 : decode cX6_otherOne 3 = .ok (.invokevirtual 170, 3) := dk_182 0 170 (dk_at dksX6_otherOne_0 3 rfl rfl)
theorem dX6_otherOne_6 : decode cX6_otherOne 6 = .ok (.ifCond .eq 24, 3) := dk_153 0 24 (dk_at dksX6_otherOne_0 6 rfl rfl)
theorem dX6_otherOne_9 : decode cX6_otherOne 9 = .ok (.aload_n 0, 1) := dk_42 (dk_at dksX6_otherOne_0 9 rfl rfl)
theorem dX6_otherOne_10 : decode cX6_otherOne 10 = .ok (.iload_n 1, 1) := dk_27 (dk_at dksX6_otherOne_0 10 rfl rfl)
theorem dX6_otherOne_11 : decode cX6_otherOne 11 = .ok (.iload_n 2, 1) := dk_28 (dk_at dksX6_otherOne_0 11 rfl rfl)
theorem dX6_otherOne_12 : decode cX6_otherOne 12 = .ok (.invokevirtual 174, 3) := dk_182 0 174 (dk_at dksX6_otherOne_0 12 rfl rfl)
theorem dX6_otherOne_15 : decode cX6_otherOne 15 = .ok (.aload_n 0, 1) := dk_42 (dk_at dksX6_otherOne_0 15 rfl rfl)
theorem dX6_otherOne_16 : decode cX6_otherOne 16 = .ok (.getfield 7, 3) := dk_180 0 7 (dk_at dksX6_otherOne_0 16 rfl rfl)
theorem dX6_otherOne_19 : decode cX6_otherOne 19 = .ok (.iload_n 3, 1) := dk_29 (dk_at dksX6_otherOne_0 19 rfl rfl)
theorem dX6_otherOne_20 : decode cX6_otherOne 20 = .ok (.iaload, 1) := dk_46 (dk_at dksX6_otherOne_0 20 rfl rfl)
theorem dX6_otherOne_21 : decode cX6_otherOne 21 = .ok (.if_icmp .ne 9, 3) := dk_160 0 9 (dk_at dksX6_otherOne_0 21 rfl rfl)
theorem dX6_otherOne_24 : decode cX6_otherOne 24 = .ok (.aload_n 0, 1) := dk_42 (dk_at dksX6_otherOne_1 0 rfl rfl)
theorem dX6_otherOne_25 : decode cX6_otherOne 25 = .ok (.iconst 5, 1) := dk_8 (dk_at dksX6_otherOne_1 1 rfl rfl)
theorem dX6_otherOne_26 : decode cX6_otherOne 26 = .ok (.invokevirtual 157, 3) := dk_182 0 157 (dk_at dksX6_otherOne_1 2 rfl rfl)
theorem dX6_otherOne_29 : decode cX6_otherOne 29 = .ok (.ireturn, 1) := dk_172 (dk_at dksX6_otherOne_1 5 rfl rfl)
theorem dX6_otherOne_30 : decode cX6_otherOne 30 = .ok (.aload_n 0, 1) := dk_42 (dk_at dksX6_otherOne_1 6 rfl rfl)
theorem dX6_otherOne_31 : decode cX6_otherOne 31 = .ok (.iload_n 1, 1) := dk_27 (dk_at dksX6_otherOne_1 7 rfl rfl)
theorem dX6_otherOne_32 : decode cX6_otherOne 32 = .ok (.iload_n 2, 1) := dk_28 (dk_at dksX6_otherOne_1 8 rfl rfl)
theorem dX6_otherOne_33 : decode cX6_otherOne 33 = .ok (.iload 4, 2) := dk_21 4 (dk_at dksX6_otherOne_1 9 rfl rfl)
theorem dX6_otherOne_35 : decode cX6_otherOne 35 = .ok (.invokevirtual 177, 3) := dk_182 0 177 (dk_at dksX6_otherOne_1 11 rfl rfl)
theorem dX6_otherOne_38 : decode cX6_otherOne 38 = .ok (.ireturn, 1) := dk_172 (dk_at dksX6_otherOne_1 14 rfl rfl)
abbrev cX6_once : ByteArray := prog_16_method_45_code
def yX6_once : MethodName := ⟨RX6, "once", "(I)Z"⟩
def dkwX6_once_6 : List UInt8 := [7, 160, 0, 7, 6, 167, 0, 4, 7, 96, 29, 79, 42, 182, 0, 151, 4, 172]
abbrev dktX6_once_6 : List UInt8 := dkwX6_once_6 ++ []
def dkwX6_once_5 : List UInt8 := [167, 0, 4, 2, 62, 29, 2, 160, 0, 9, 42, 5, 182, 0, 157, 172, 42, 180, 0, 7, 17, 7, 208, 27]
abbrev dktX6_once_5 : List UInt8 := dkwX6_once_5 ++ dktX6_once_6
def dkwX6_once_4 : List UInt8 := [160, 0, 7, 4, 167, 0, 24, 28, 16, 7, 160, 0, 7, 5, 167, 0, 14, 28, 16, 6, 160, 0, 7, 6]
abbrev dktX6_once_4 : List UInt8 := dkwX6_once_4 ++ dktX6_once_5
def dkwX6_once_3 : List UInt8 := [160, 0, 7, 5, 167, 0, 48, 2, 167, 0, 44, 28, 16, 15, 160, 0, 7, 3, 167, 0, 34, 28, 16, 16]
abbrev dktX6_once_3 : List UInt8 := dkwX6_once_3 ++ dktX6_once_4
def dkwX6_once_2 : List UInt8 := [16, 12, 160, 0, 7, 3, 167, 0, 68, 28, 16, 13, 160, 0, 7, 4, 167, 0, 58, 28, 16, 14]
abbrev dktX6_once_2 : List UInt8 := dkwX6_once_2 ++ dktX6_once_3
def dkwX6_once_1 : List UInt8 := [27, 120, 128, 181, 0, 195, 42, 182, 0, 151, 42, 18, 168, 182, 0, 160, 61, 27, 7, 160, 0, 37, 28]
abbrev dktX6_once_1 : List UInt8 := dkwX6_once_1 ++ dktX6_once_2
def dkwX6_once_0 : List UInt8 := [42, 180, 0, 195, 27, 122, 4, 126, 4, 160, 0, 9, 42, 8, 182, 0, 157, 172, 42, 89, 180, 0, 195, 4]
abbrev dktX6_once_0 : List UInt8 := dkwX6_once_0 ++ dktX6_once_1
theorem dksX6_once_0 : cX6_once.data.toList.drop 0 = dktX6_once_0 := by decide +kernel
theorem dksX6_once_1 : cX6_once.data.toList.drop 24 = dktX6_once_1 := dk_seg dksX6_once_0 24 rfl rfl
theorem dksX6_once_2 : cX6_once.data.toList.drop 47 = dktX6_once_2 := dk_seg dksX6_once_1 23 rfl rfl
theorem dksX6_once_3 : cX6_once.data.toList.drop 69 = dktX6_once_3 := dk_seg dksX6_once_2 22 rfl rfl
theorem dksX6_once_4 : cX6_once.data.toList.drop 93 = dktX6_once_4 := dk_seg dksX6_once_3 24 rfl rfl
theorem dksX6_once_5 : cX6_once.data.toList.drop 117 = dktX6_once_5 := dk_seg dksX6_once_4 24 rfl rfl
theorem dksX6_once_6 : cX6_once.data.toList.drop 141 = dktX6_once_6 := dk_seg dksX6_once_5 24 rfl rfl
theorem dX6_once_0 : decode cX6_once 0 = .ok (.aload_n 0, 1) := dk_42 (dk_at dksX6_once_0 0 rfl rfl)
theorem dX6_once_1 : decode cX6_once 1 = .ok (.getfield 195, 3) := dk_180 0 195 (dk_at dksX6_once_0 1 rfl rfl)
theorem dX6_once_4 : decode cX6_once 4 = .ok (.iload_n 1, 1) := dk_27 (dk_at dksX6_once_0 4 rfl rfl)
theorem dX6_once_5 : decode cX6_once 5 = .ok (.ishr, 1) := dk_122 (dk_at dksX6_once_0 5 rfl rfl)
theorem dX6_once_6 : decode cX6_once 6 = .ok (.iconst 1, 1) := dk_4 (dk_at dksX6_once_0 6 rfl rfl)
theorem dX6_once_7 : decode cX6_once 7 = .ok (.iand, 1) := dk_126 (dk_at dksX6_once_0 7 rfl rfl)
theorem dX6_once_8 : decode cX6_once 8 = .ok (.iconst 1, 1) := dk_4 (dk_at dksX6_once_0 8 rfl rfl)
theorem dX6_once_9 : decode cX6_once 9 = .ok (.if_icmp .ne 9, 3) := dk_160 0 9 (dk_at dksX6_once_0 9 rfl rfl)
theorem dX6_once_12 : decode cX6_once 12 = .ok (.aload_n 0, 1) := dk_42 (dk_at dksX6_once_0 12 rfl rfl)
theorem dX6_once_13 : decode cX6_once 13 = .ok (.iconst 5, 1) := dk_8 (dk_at dksX6_once_0 13 rfl rfl)
theorem dX6_once_14 : decode cX6_once 14 = .ok (.invokevirtual 157, 3) := dk_182 0 157 (dk_at dksX6_once_0 14 rfl rfl)
theorem dX6_once_17 : decode cX6_once 17 = .ok (.ireturn, 1) := dk_172 (dk_at dksX6_once_0 17 rfl rfl)
theorem dX6_once_18 : decode cX6_once 18 = .ok (.aload_n 0, 1) := dk_42 (dk_at dksX6_once_0 18 rfl rfl)
theorem dX6_once_19 : decode cX6_once 19 = .ok (.dup, 1) := dk_89 (dk_at dksX6_once_0 19 rfl rfl)
theorem dX6_once_20 : decode cX6_once 20 = .ok (.getfield 195, 3) := dk_180 0 195 (dk_at dksX6_once_0 20 rfl rfl)
theorem dX6_once_23 : decode cX6_once 23 = .ok (.iconst 1, 1) := dk_4 (dk_at dksX6_once_0 23 rfl rfl)
theorem dX6_once_24 : decode cX6_once 24 = .ok (.iload_n 1, 1) := dk_27 (dk_at dksX6_once_1 0 rfl rfl)
theorem dX6_once_25 : decode cX6_once 25 = .ok (.ishl, 1) := dk_120 (dk_at dksX6_once_1 1 rfl rfl)
theorem dX6_once_26 : decode cX6_once 26 = .ok (.ior, 1) := dk_128 (dk_at dksX6_once_1 2 rfl rfl)
theorem dX6_once_27 : decode cX6_once 27 = .ok (.putfield 195, 3) := dk_181 0 195 (dk_at dksX6_once_1 3 rfl rfl)
theorem dX6_once_30 : decode cX6_once 30 = .ok (.aload_n 0, 1) := dk_42 (dk_at dksX6_once_1 6 rfl rfl)
theorem dX6_once_31 : decode cX6_once 31 = .ok (.invokevirtual 151, 3) := dk_182 0 151 (dk_at dksX6_once_1 7 rfl rfl)
theorem dX6_once_34 : decode cX6_once 34 = .ok (.aload_n 0, 1) := dk_42 (dk_at dksX6_once_1 10 rfl rfl)
theorem dX6_once_35 : decode cX6_once 35 = .ok (.ldc 168, 2) := dk_18 168 (dk_at dksX6_once_1 11 rfl rfl)
theorem dX6_once_37 : decode cX6_once 37 = .ok (.invokevirtual 160, 3) := dk_182 0 160 (dk_at dksX6_once_1 13 rfl rfl)
theorem dX6_once_40 : decode cX6_once 40 = .ok (.istore_n 2, 1) := dk_61 (dk_at dksX6_once_1 16 rfl rfl)
theorem dX6_once_41 : decode cX6_once 41 = .ok (.iload_n 1, 1) := dk_27 (dk_at dksX6_once_1 17 rfl rfl)
theorem dX6_once_42 : decode cX6_once 42 = .ok (.iconst 4, 1) := dk_7 (dk_at dksX6_once_1 18 rfl rfl)
theorem dX6_once_43 : decode cX6_once 43 = .ok (.if_icmp .ne 37, 3) := dk_160 0 37 (dk_at dksX6_once_1 19 rfl rfl)
theorem dX6_once_46 : decode cX6_once 46 = .ok (.iload_n 2, 1) := dk_28 (dk_at dksX6_once_1 22 rfl rfl)
theorem dX6_once_47 : decode cX6_once 47 = .ok (.bipush 12, 2) := dk_16 12 (dk_at dksX6_once_2 0 rfl rfl)
theorem dX6_once_49 : decode cX6_once 49 = .ok (.if_icmp .ne 7, 3) := dk_160 0 7 (dk_at dksX6_once_2 2 rfl rfl)
theorem dX6_once_52 : decode cX6_once 52 = .ok (.iconst 0, 1) := dk_3 (dk_at dksX6_once_2 5 rfl rfl)
theorem dX6_once_53 : decode cX6_once 53 = .ok (.goto 68, 3) := dk_167 0 68 (dk_at dksX6_once_2 6 rfl rfl)
theorem dX6_once_56 : decode cX6_once 56 = .ok (.iload_n 2, 1) := dk_28 (dk_at dksX6_once_2 9 rfl rfl)
theorem dX6_once_57 : decode cX6_once 57 = .ok (.bipush 13, 2) := dk_16 13 (dk_at dksX6_once_2 10 rfl rfl)
theorem dX6_once_59 : decode cX6_once 59 = .ok (.if_icmp .ne 7, 3) := dk_160 0 7 (dk_at dksX6_once_2 12 rfl rfl)
theorem dX6_once_62 : decode cX6_once 62 = .ok (.iconst 1, 1) := dk_4 (dk_at dksX6_once_2 15 rfl rfl)
theorem dX6_once_63 : decode cX6_once 63 = .ok (.goto 58, 3) := dk_167 0 58 (dk_at dksX6_once_2 16 rfl rfl)
theorem dX6_once_66 : decode cX6_once 66 = .ok (.iload_n 2, 1) := dk_28 (dk_at dksX6_once_2 19 rfl rfl)
theorem dX6_once_67 : decode cX6_once 67 = .ok (.bipush 14, 2) := dk_16 14 (dk_at dksX6_once_2 20 rfl rfl)
theorem dX6_once_69 : decode cX6_once 69 = .ok (.if_icmp .ne 7, 3) := dk_160 0 7 (dk_at dksX6_once_3 0 rfl rfl)
theorem dX6_once_72 : decode cX6_once 72 = .ok (.iconst 2, 1) := dk_5 (dk_at dksX6_once_3 3 rfl rfl)
theorem dX6_once_73 : decode cX6_once 73 = .ok (.goto 48, 3) := dk_167 0 48 (dk_at dksX6_once_3 4 rfl rfl)
theorem dX6_once_76 : decode cX6_once 76 = .ok (.iconst (-1), 1) := dk_2 (dk_at dksX6_once_3 7 rfl rfl)
theorem dX6_once_77 : decode cX6_once 77 = .ok (.goto 44, 3) := dk_167 0 44 (dk_at dksX6_once_3 8 rfl rfl)
theorem dX6_once_80 : decode cX6_once 80 = .ok (.iload_n 2, 1) := dk_28 (dk_at dksX6_once_3 11 rfl rfl)
theorem dX6_once_81 : decode cX6_once 81 = .ok (.bipush 15, 2) := dk_16 15 (dk_at dksX6_once_3 12 rfl rfl)
theorem dX6_once_83 : decode cX6_once 83 = .ok (.if_icmp .ne 7, 3) := dk_160 0 7 (dk_at dksX6_once_3 14 rfl rfl)
theorem dX6_once_86 : decode cX6_once 86 = .ok (.iconst 0, 1) := dk_3 (dk_at dksX6_once_3 17 rfl rfl)
theorem dX6_once_87 : decode cX6_once 87 = .ok (.goto 34, 3) := dk_167 0 34 (dk_at dksX6_once_3 18 rfl rfl)
theorem dX6_once_90 : decode cX6_once 90 = .ok (.iload_n 2, 1) := dk_28 (dk_at dksX6_once_3 21 rfl rfl)
theorem dX6_once_91 : decode cX6_once 91 = .ok (.bipush 16, 2) := dk_16 16 (dk_at dksX6_once_3 22 rfl rfl)
theorem dX6_once_93 : decode cX6_once 93 = .ok (.if_icmp .ne 7, 3) := dk_160 0 7 (dk_at dksX6_once_4 0 rfl rfl)
theorem dX6_once_96 : decode cX6_once 96 = .ok (.iconst 1, 1) := dk_4 (dk_at dksX6_once_4 3 rfl rfl)
theorem dX6_once_97 : decode cX6_once 97 = .ok (.goto 24, 3) := dk_167 0 24 (dk_at dksX6_once_4 4 rfl rfl)
theorem dX6_once_100 : decode cX6_once 100 = .ok (.iload_n 2, 1) := dk_28 (dk_at dksX6_once_4 7 rfl rfl)
theorem dX6_once_101 : decode cX6_once 101 = .ok (.bipush 7, 2) := dk_16 7 (dk_at dksX6_once_4 8 rfl rfl)
theorem dX6_once_103 : decode cX6_once 103 = .ok (.if_icmp .ne 7, 3) := dk_160 0 7 (dk_at dksX6_once_4 10 rfl rfl)
theorem dX6_once_106 : decode cX6_once 106 = .ok (.iconst 2, 1) := dk_5 (dk_at dksX6_once_4 13 rfl rfl)
theorem dX6_once_107 : decode cX6_once 107 = .ok (.goto 14, 3) := dk_167 0 14 (dk_at dksX6_once_4 14 rfl rfl)
theorem dX6_once_110 : decode cX6_once 110 = .ok (.iload_n 2, 1) := dk_28 (dk_at dksX6_once_4 17 rfl rfl)
theorem dX6_once_111 : decode cX6_once 111 = .ok (.bipush 6, 2) := dk_16 6 (dk_at dksX6_once_4 18 rfl rfl)
theorem dX6_once_113 : decode cX6_once 113 = .ok (.if_icmp .ne 7, 3) := dk_160 0 7 (dk_at dksX6_once_4 20 rfl rfl)
theorem dX6_once_116 : decode cX6_once 116 = .ok (.iconst 3, 1) := dk_6 (dk_at dksX6_once_4 23 rfl rfl)
theorem dX6_once_117 : decode cX6_once 117 = .ok (.goto 4, 3) := dk_167 0 4 (dk_at dksX6_once_5 0 rfl rfl)
theorem dX6_once_120 : decode cX6_once 120 = .ok (.iconst (-1), 1) := dk_2 (dk_at dksX6_once_5 3 rfl rfl)
theorem dX6_once_121 : decode cX6_once 121 = .ok (.istore_n 3, 1) := dk_62 (dk_at dksX6_once_5 4 rfl rfl)
theorem dX6_once_122 : decode cX6_once 122 = .ok (.iload_n 3, 1) := dk_29 (dk_at dksX6_once_5 5 rfl rfl)
theorem dX6_once_123 : decode cX6_once 123 = .ok (.iconst (-1), 1) := dk_2 (dk_at dksX6_once_5 6 rfl rfl)
theorem dX6_once_124 : decode cX6_once 124 = .ok (.if_icmp .ne 9, 3) := dk_160 0 9 (dk_at dksX6_once_5 7 rfl rfl)
theorem dX6_once_127 : decode cX6_once 127 = .ok (.aload_n 0, 1) := dk_42 (dk_at dksX6_once_5 10 rfl rfl)
theorem dX6_once_128 : decode cX6_once 128 = .ok (.iconst 2, 1) := dk_5 (dk_at dksX6_once_5 11 rfl rfl)
theorem dX6_once_129 : decode cX6_once 129 = .ok (.invokevirtual 157, 3) := dk_182 0 157 (dk_at dksX6_once_5 12 rfl rfl)
theorem dX6_once_132 : decode cX6_once 132 = .ok (.ireturn, 1) := dk_172 (dk_at dksX6_once_5 15 rfl rfl)
theorem dX6_once_133 : decode cX6_once 133 = .ok (.aload_n 0, 1) := dk_42 (dk_at dksX6_once_5 16 rfl rfl)
theorem dX6_once_134 : decode cX6_once 134 = .ok (.getfield 7, 3) := dk_180 0 7 (dk_at dksX6_once_5 17 rfl rfl)
theorem dX6_once_137 : decode cX6_once 137 = .ok (.sipush 2000, 3) := dk_17 7 208 (dk_at dksX6_once_5 20 rfl rfl)
theorem dX6_once_140 : decode cX6_once 140 = .ok (.iload_n 1, 1) := dk_27 (dk_at dksX6_once_5 23 rfl rfl)
theorem dX6_once_141 : decode cX6_once 141 = .ok (.iconst 4, 1) := dk_7 (dk_at dksX6_once_6 0 rfl rfl)
theorem dX6_once_142 : decode cX6_once 142 = .ok (.if_icmp .ne 7, 3) := dk_160 0 7 (dk_at dksX6_once_6 1 rfl rfl)
theorem dX6_once_145 : decode cX6_once 145 = .ok (.iconst 3, 1) := dk_6 (dk_at dksX6_once_6 4 rfl rfl)
theorem dX6_once_146 : decode cX6_once 146 = .ok (.goto 4, 3) := dk_167 0 4 (dk_at dksX6_once_6 5 rfl rfl)
theorem dX6_once_149 : decode cX6_once 149 = .ok (.iconst 4, 1) := dk_7 (dk_at dksX6_once_6 8 rfl rfl)
theorem dX6_once_150 : decode cX6_once 150 = .ok (.iadd, 1) := dk_96 (dk_at dksX6_once_6 9 rfl rfl)
theorem dX6_once_151 : decode cX6_once 151 = .ok (.iload_n 3, 1) := dk_29 (dk_at dksX6_once_6 10 rfl rfl)
theorem dX6_once_152 : decode cX6_once 152 = .ok (.iastore, 1) := dk_79 (dk_at dksX6_once_6 11 rfl rfl)
theorem dX6_once_153 : decode cX6_once 153 = .ok (.aload_n 0, 1) := dk_42 (dk_at dksX6_once_6 12 rfl rfl)
theorem dX6_once_154 : decode cX6_once 154 = .ok (.invokevirtual 151, 3) := dk_182 0 151 (dk_at dksX6_once_6 13 rfl rfl)
theorem dX6_once_157 : decode cX6_once 157 = .ok (.iconst 1, 1) := dk_4 (dk_at dksX6_once_6 16 rfl rfl)
theorem dX6_once_158 : decode cX6_once 158 = .ok (.ireturn, 1) := dk_172 (dk_at dksX6_once_6 17 rfl rfl)
abbrev cX6_wantSign : ByteArray := prog_16_method_29_code
def yX6_wantSign : MethodName := ⟨RX6, "wantSign", "(I)Z"⟩
def dkwX6_wantSign_0 : List UInt8 := [42, 27, 182, 0, 154, 154, 0, 9, 42, 5, 182, 0, 157, 172, 42, 182, 0, 151, 4, 172]
abbrev dktX6_wantSign_0 : List UInt8 := dkwX6_wantSign_0 ++ []
theorem dksX6_wantSign_0 : cX6_wantSign.data.toList.drop 0 = dktX6_wantSign_0 := by decide +kernel
theorem dX6_wantSign_0 : decode cX6_wantSign 0 = .ok (.aload_n 0, 1) := dk_42 (dk_at dksX6_wantSign_0 0 rfl rfl)
theorem dX6_wantSign_1 : decode cX6_wantSign 1 = .ok (.iload_n 1, 1) := dk_27 (dk_at dksX6_wantSign_0 1 rfl rfl)
theorem dX6_wantSign_2 : decode cX6_wantSign 2 = .ok (.invokevirtual 154, 3) := dk_182 0 154 (dk_at dksX6_wantSign_0 2 rfl rfl)
theorem dX6_wantSign_5 : decode cX6_wantSign 5 = .ok (.ifCond .ne 9, 3) := dk_154 0 9 (dk_at dksX6_wantSign_0 5 rfl rfl)
theorem dX6_wantSign_8 : decode cX6_wantSign 8 = .ok (.aload_n 0, 1) := dk_42 (dk_at dksX6_wantSign_0 8 rfl rfl)
theorem dX6_wantSign_9 : decode cX6_wantSign 9 = .ok (.iconst 2, 1) := dk_5 (dk_at dksX6_wantSign_0 9 rfl rfl)
theorem dX6_wantSign_10 : decode cX6_wantSign 10 = .ok (.invokevirtual 157, 3) := dk_182 0 157 (dk_at dksX6_wantSign_0 10 rfl rfl)
theorem dX6_wantSign_13 : decode cX6_wantSign 13 = .ok (.ireturn, 1) := dk_172 (dk_at dksX6_wantSign_0 13 rfl rfl)
theorem dX6_wantSign_14 : decode cX6_wantSign 14 = .ok (.aload_n 0, 1) := dk_42 (dk_at dksX6_wantSign_0 14 rfl rfl)
theorem dX6_wantSign_15 : decode cX6_wantSign 15 = .ok (.invokevirtual 151, 3) := dk_182 0 151 (dk_at dksX6_wantSign_0 15 rfl rfl)
theorem dX6_wantSign_18 : decode cX6_wantSign 18 = .ok (.iconst 1, 1) := dk_4 (dk_at dksX6_wantSign_0 18 rfl rfl)
theorem dX6_wantSign_19 : decode cX6_wantSign 19 = .ok (.ireturn, 1) := dk_172 (dk_at dksX6_wantSign_0 19 rfl rfl)
abbrev cX6_isSign : ByteArray := prog_16_method_25_code
def yX6_isSign : MethodName := ⟨RX6, "isSign", "(I)Z"⟩
def dkwX6_isSign_0 : List UInt8 := [42, 180, 0, 120, 7, 160, 0, 15, 42, 180, 0, 117, 27, 160, 0, 7, 4, 167, 0, 4, 3, 172]
abbrev dktX6_isSign_0 : List UInt8 := dkwX6_isSign_0 ++ []
theorem dksX6_isSign_0 : cX6_isSign.data.toList.drop 0 = dktX6_isSign_0 := by decide +kernel
theorem dX6_isSign_0 : decode cX6_isSign 0 = .ok (.aload_n 0, 1) := dk_42 (dk_at dksX6_isSign_0 0 rfl rfl)
theorem dX6_isSign_1 : decode cX6_isSign 1 = .ok (.getfield 120, 3) := dk_180 0 120 (dk_at dksX6_isSign_0 1 rfl rfl)
theorem dX6_isSign_4 : decode cX6_isSign 4 = .ok (.iconst 4, 1) := dk_7 (dk_at dksX6_isSign_0 4 rfl rfl)
theorem dX6_isSign_5 : decode cX6_isSign 5 = .ok (.if_icmp .ne 15, 3) := dk_160 0 15 (dk_at dksX6_isSign_0 5 rfl rfl)
theorem dX6_isSign_8 : decode cX6_isSign 8 = .ok (.aload_n 0, 1) := dk_42 (dk_at dksX6_isSign_0 8 rfl rfl)
theorem dX6_isSign_9 : decode cX6_isSign 9 = .ok (.getfield 117, 3) := dk_180 0 117 (dk_at dksX6_isSign_0 9 rfl rfl)
theorem dX6_isSign_12 : decode cX6_isSign 12 = .ok (.iload_n 1, 1) := dk_27 (dk_at dksX6_isSign_0 12 rfl rfl)
theorem dX6_isSign_13 : decode cX6_isSign 13 = .ok (.if_icmp .ne 7, 3) := dk_160 0 7 (dk_at dksX6_isSign_0 13 rfl rfl)
theorem dX6_isSign_16 : decode cX6_isSign 16 = .ok (.iconst 1, 1) := dk_4 (dk_at dksX6_isSign_0 16 rfl rfl)
theorem dX6_isSign_17 : decode cX6_isSign 17 = .ok (.goto 4, 3) := dk_167 0 4 (dk_at dksX6_isSign_0 17 rfl rfl)
theorem dX6_isSign_20 : decode cX6_isSign 20 = .ok (.iconst 0, 1) := dk_3 (dk_at dksX6_isSign_0 20 rfl rfl)
theorem dX6_isSign_21 : decode cX6_isSign 21 = .ok (.ireturn, 1) := dk_172 (dk_at dksX6_isSign_0 21 rfl rfl)
abbrev cX6_taken : ByteArray := prog_16_method_36_code
def yX6_taken : MethodName := ⟨RX6, "taken", "(I)I"⟩
def dkwX6_taken_1 : List UInt8 := [42, 27, 182, 0, 79, 172]
abbrev dktX6_taken_1 : List UInt8 := dkwX6_taken_1 ++ []
def dkwX6_taken_0 : List UInt8 := [42, 42, 180, 0, 145, 181, 0, 37, 42, 180, 0, 145, 158, 0, 12, 42, 16, 9, 182, 0, 75, 167, 0, 8]
abbrev dktX6_taken_0 : List UInt8 := dkwX6_taken_0 ++ dktX6_taken_1
theorem dksX6_taken_0 : cX6_taken.data.toList.drop 0 = dktX6_taken_0 := by decide +kernel
theorem dksX6_taken_1 : cX6_taken.data.toList.drop 24 = dktX6_taken_1 := dk_seg dksX6_taken_0 24 rfl rfl
theorem dX6_taken_0 : decode cX6_taken 0 = .ok (.aload_n 0, 1) := dk_42 (dk_at dksX6_taken_0 0 rfl rfl)
theorem dX6_taken_1 : decode cX6_taken 1 = .ok (.aload_n 0, 1) := dk_42 (dk_at dksX6_taken_0 1 rfl rfl)
theorem dX6_taken_2 : decode cX6_taken 2 = .ok (.getfield 145, 3) := dk_180 0 145 (dk_at dksX6_taken_0 2 rfl rfl)
theorem dX6_taken_5 : decode cX6_taken 5 = .ok (.putfield 37, 3) := dk_181 0 37 (dk_at dksX6_taken_0 5 rfl rfl)
theorem dX6_taken_8 : decode cX6_taken 8 = .ok (.aload_n 0, 1) := dk_42 (dk_at dksX6_taken_0 8 rfl rfl)
theorem dX6_taken_9 : decode cX6_taken 9 = .ok (.getfield 145, 3) := dk_180 0 145 (dk_at dksX6_taken_0 9 rfl rfl)
theorem dX6_taken_12 : decode cX6_taken 12 = .ok (.ifCond .le 12, 3) := dk_158 0 12 (dk_at dksX6_taken_0 12 rfl rfl)
theorem dX6_taken_15 : decode cX6_taken 15 = .ok (.aload_n 0, 1) := dk_42 (dk_at dksX6_taken_0 15 rfl rfl)
theorem dX6_taken_16 : decode cX6_taken 16 = .ok (.bipush 9, 2) := dk_16 9 (dk_at dksX6_taken_0 16 rfl rfl)
theorem dX6_taken_18 : decode cX6_taken 18 = .ok (.invokevirtual 75, 3) := dk_182 0 75 (dk_at dksX6_taken_0 18 rfl rfl)
theorem dX6_taken_21 : decode cX6_taken 21 = .ok (.goto 8, 3) := dk_167 0 8 (dk_at dksX6_taken_0 21 rfl rfl)
theorem dX6_taken_24 : decode cX6_taken 24 = .ok (.aload_n 0, 1) := dk_42 (dk_at dksX6_taken_1 0 rfl rfl)
theorem dX6_taken_25 : decode cX6_taken 25 = .ok (.iload_n 1, 1) := dk_27 (dk_at dksX6_taken_1 1 rfl rfl)
theorem dX6_taken_26 : decode cX6_taken 26 = .ok (.invokevirtual 79, 3) := dk_182 0 79 (dk_at dksX6_taken_1 2 rfl rfl)
theorem dX6_taken_29 : decode cX6_taken 29 = .ok (.ireturn, 1) := dk_172 (dk_at dksX6_taken_1 5 rfl rfl)
abbrev cX6_gives : ByteArray := prog_16_method_8_code
def yX6_gives : MethodName := ⟨RX6, "gives", "(I)I"⟩
def dkwX6_gives_0 : List UInt8 := [42, 3, 181, 0, 69, 27, 172]
abbrev dktX6_gives_0 : List UInt8 := dkwX6_gives_0 ++ []
theorem dksX6_gives_0 : cX6_gives.data.toList.drop 0 = dktX6_gives_0 := by decide +kernel
theorem dX6_gives_0 : decode cX6_gives 0 = .ok (.aload_n 0, 1) := dk_42 (dk_at dksX6_gives_0 0 rfl rfl)
theorem dX6_gives_1 : decode cX6_gives 1 = .ok (.iconst 0, 1) := dk_3 (dk_at dksX6_gives_0 1 rfl rfl)
theorem dX6_gives_2 : decode cX6_gives 2 = .ok (.putfield 69, 3) := dk_181 0 69 (dk_at dksX6_gives_0 2 rfl rfl)
theorem dX6_gives_5 : decode cX6_gives 5 = .ok (.iload_n 1, 1) := dk_27 (dk_at dksX6_gives_0 5 rfl rfl)
theorem dX6_gives_6 : decode cX6_gives 6 = .ok (.ireturn, 1) := dk_172 (dk_at dksX6_gives_0 6 rfl rfl)
abbrev cX6_year : ByteArray := prog_16_method_52_code
def yX6_year : MethodName := ⟨RX6, "year", "(I)I"⟩
def dkwX6_year_6 : List UInt8 := [182, 0, 223, 172]
abbrev dktX6_year_6 : List UInt8 := dkwX6_year_6 ++ []
def dkwX6_year_5 : List UInt8 := [42, 180, 0, 7, 17, 7, 208, 29, 96, 46, 79, 132, 3, 1, 167, 255, 230, 42, 42, 180, 0, 239]
abbrev dktX6_year_5 : List UInt8 := dkwX6_year_5 ++ dktX6_year_6
def dkwX6_year_4 : List UInt8 := [180, 0, 7, 17, 7, 217, 46, 79, 17, 0, 130, 62, 29, 17, 1, 239, 162, 0, 25, 42, 180, 0, 7, 29]
abbrev dktX6_year_4 : List UInt8 := dkwX6_year_4 ++ dktX6_year_5
def dkwX6_year_3 : List UInt8 := [158, 0, 9, 42, 5, 182, 0, 157, 87, 42, 180, 0, 145, 154, 0, 51, 42, 180, 0, 7, 16, 9, 42]
abbrev dktX6_year_3 : List UInt8 := dkwX6_year_3 ++ dktX6_year_4
def dkwX6_year_2 : List UInt8 := [153, 0, 11, 42, 182, 0, 245, 61, 167, 255, 240, 42, 180, 0, 145, 154, 0, 16, 42, 180, 0, 236]
abbrev dktX6_year_2 : List UInt8 := dkwX6_year_2 ++ dktX6_year_3
def dkwX6_year_1 : List UInt8 := [3, 79, 42, 3, 181, 0, 236, 42, 3, 181, 0, 239, 4, 61, 28, 153, 0, 18, 42, 180, 0, 120]
abbrev dktX6_year_1 : List UInt8 := dkwX6_year_1 ++ dktX6_year_2
def dkwX6_year_0 : List UInt8 := [42, 27, 17, 1, 44, 182, 0, 217, 154, 0, 9, 42, 4, 182, 0, 75, 172, 42, 180, 0, 7, 17, 7, 217]
abbrev dktX6_year_0 : List UInt8 := dkwX6_year_0 ++ dktX6_year_1
theorem dksX6_year_0 : cX6_year.data.toList.drop 0 = dktX6_year_0 := by decide +kernel
theorem dksX6_year_1 : cX6_year.data.toList.drop 24 = dktX6_year_1 := dk_seg dksX6_year_0 24 rfl rfl
theorem dksX6_year_2 : cX6_year.data.toList.drop 46 = dktX6_year_2 := dk_seg dksX6_year_1 22 rfl rfl
theorem dksX6_year_3 : cX6_year.data.toList.drop 68 = dktX6_year_3 := dk_seg dksX6_year_2 22 rfl rfl
theorem dksX6_year_4 : cX6_year.data.toList.drop 91 = dktX6_year_4 := dk_seg dksX6_year_3 23 rfl rfl
theorem dksX6_year_5 : cX6_year.data.toList.drop 115 = dktX6_year_5 := dk_seg dksX6_year_4 24 rfl rfl
theorem dksX6_year_6 : cX6_year.data.toList.drop 137 = dktX6_year_6 := dk_seg dksX6_year_5 22 rfl rfl
theorem dX6_year_0 : decode cX6_year 0 = .ok (.aload_n 0, 1) := dk_42 (dk_at dksX6_year_0 0 rfl rfl)
theorem dX6_year_1 : decode cX6_year 1 = .ok (.iload_n 1, 1) := dk_27 (dk_at dksX6_year_0 1 rfl rfl)
theorem dX6_year_2 : decode cX6_year 2 = .ok (.sipush 300, 3) := dk_17 1 44 (dk_at dksX6_year_0 2 rfl rfl)
theorem dX6_year_5 : decode cX6_year 5 = .ok (.invokevirtual 217, 3) := dk_182 0 217 (dk_at dksX6_year_0 5 rfl rfl)
theorem dX6_year_8 : decode cX6_year 8 = .ok (.ifCond .ne 9, 3) := dk_154 0 9 (dk_at dksX6_year_0 8 rfl rfl)
theorem dX6_year_11 : decode cX6_year 11 = .ok (.aload_n 0, 1) := dk_42 (dk_at dksX6_year_0 11 rfl rfl)
theorem dX6_year_12 : decode cX6_year 12 = .ok (.iconst 1, 1) := dk_4 (dk_at dksX6_year_0 12 rfl rfl)
theorem dX6_year_13 : decode cX6_year 13 = .ok (.invokevirtual 75, 3) := dk_182 0 75 (dk_at dksX6_year_0 13 rfl rfl)
theorem dX6_year_16 : decode cX6_year 16 = .ok (.ireturn, 1) := dk_172 (dk_at dksX6_year_0 16 rfl rfl)
theorem dX6_year_17 : decode cX6_year 17 = .ok (.aload_n 0, 1) := dk_42 (dk_at dksX6_year_0 17 rfl rfl)
theorem dX6_year_18 : decode cX6_year 18 = .ok (.getfield 7, 3) := dk_180 0 7 (dk_at dksX6_year_0 18 rfl rfl)
theorem dX6_year_21 : decode cX6_year 21 = .ok (.sipush 2009, 3) := dk_17 7 217 (dk_at dksX6_year_0 21 rfl rfl)
theorem dX6_year_24 : decode cX6_year 24 = .ok (.iconst 0, 1) := dk_3 (dk_at dksX6_year_1 0 rfl rfl)
theorem dX6_year_25 : decode cX6_year 25 = .ok (.iastore, 1) := dk_79 (dk_at dksX6_year_1 1 rfl rfl)
theorem dX6_year_26 : decode cX6_year 26 = .ok (.aload_n 0, 1) := dk_42 (dk_at dksX6_year_1 2 rfl rfl)
theorem dX6_year_27 : decode cX6_year 27 = .ok (.iconst 0, 1) := dk_3 (dk_at dksX6_year_1 3 rfl rfl)
theorem dX6_year_28 : decode cX6_year 28 = .ok (.putfield 236, 3) := dk_181 0 236 (dk_at dksX6_year_1 4 rfl rfl)
theorem dX6_year_31 : decode cX6_year 31 = .ok (.aload_n 0, 1) := dk_42 (dk_at dksX6_year_1 7 rfl rfl)
theorem dX6_year_32 : decode cX6_year 32 = .ok (.iconst 0, 1) := dk_3 (dk_at dksX6_year_1 8 rfl rfl)
theorem dX6_year_33 : decode cX6_year 33 = .ok (.putfield 239, 3) := dk_181 0 239 (dk_at dksX6_year_1 9 rfl rfl)
theorem dX6_year_36 : decode cX6_year 36 = .ok (.iconst 1, 1) := dk_4 (dk_at dksX6_year_1 12 rfl rfl)
theorem dX6_year_37 : decode cX6_year 37 = .ok (.istore_n 2, 1) := dk_61 (dk_at dksX6_year_1 13 rfl rfl)
theorem dX6_year_38 : decode cX6_year 38 = .ok (.iload_n 2, 1) := dk_28 (dk_at dksX6_year_1 14 rfl rfl)
theorem dX6_year_39 : decode cX6_year 39 = .ok (.ifCond .eq 18, 3) := dk_153 0 18 (dk_at dksX6_year_1 15 rfl rfl)
theorem dX6_year_42 : decode cX6_year 42 = .ok (.aload_n 0, 1) := dk_42 (dk_at dksX6_year_1 18 rfl rfl)
theorem dX6_year_43 : decode cX6_year 43 = .ok (.getfield 120, 3) := dk_180 0 120 (dk_at dksX6_year_1 19 rfl rfl)
theorem dX6_year_46 : decode cX6_year 46 = .ok (.ifCond .eq 11, 3) := dk_153 0 11 (dk_at dksX6_year_2 0 rfl rfl)
theorem dX6_year_49 : decode cX6_year 49 = .ok (.aload_n 0, 1) := dk_42 (dk_at dksX6_year_2 3 rfl rfl)
theorem dX6_year_50 : decode cX6_year 50 = .ok (.invokevirtual 245, 3) := dk_182 0 245 (dk_at dksX6_year_2 4 rfl rfl)
theorem dX6_year_53 : decode cX6_year 53 = .ok (.istore_n 2, 1) := dk_61 (dk_at dksX6_year_2 7 rfl rfl)
theorem dX6_year_54 : decode cX6_year 54 = .ok (.goto (-16), 3) := dk_167 255 240 (dk_at dksX6_year_2 8 rfl rfl)
theorem dX6_year_57 : decode cX6_year 57 = .ok (.aload_n 0, 1) := dk_42 (dk_at dksX6_year_2 11 rfl rfl)
theorem dX6_year_58 : decode cX6_year 58 = .ok (.getfield 145, 3) := dk_180 0 145 (dk_at dksX6_year_2 12 rfl rfl)
theorem dX6_year_61 : decode cX6_year 61 = .ok (.ifCond .ne 16, 3) := dk_154 0 16 (dk_at dksX6_year_2 15 rfl rfl)
theorem dX6_year_64 : decode cX6_year 64 = .ok (.aload_n 0, 1) := dk_42 (dk_at dksX6_year_2 18 rfl rfl)
theorem dX6_year_65 : decode cX6_year 65 = .ok (.getfield 236, 3) := dk_180 0 236 (dk_at dksX6_year_2 19 rfl rfl)
theorem dX6_year_68 : decode cX6_year 68 = .ok (.ifCond .le 9, 3) := dk_158 0 9 (dk_at dksX6_year_3 0 rfl rfl)
theorem dX6_year_71 : decode cX6_year 71 = .ok (.aload_n 0, 1) := dk_42 (dk_at dksX6_year_3 3 rfl rfl)
theorem dX6_year_72 : decode cX6_year 72 = .ok (.iconst 2, 1) := dk_5 (dk_at dksX6_year_3 4 rfl rfl)
theorem dX6_year_73 : decode cX6_year 73 = .ok (.invokevirtual 157, 3) := dk_182 0 157 (dk_at dksX6_year_3 5 rfl rfl)
theorem dX6_year_76 : decode cX6_year 76 = .ok (.pop, 1) := dk_87 (dk_at dksX6_year_3 8 rfl rfl)
theorem dX6_year_77 : decode cX6_year 77 = .ok (.aload_n 0, 1) := dk_42 (dk_at dksX6_year_3 9 rfl rfl)
theorem dX6_year_78 : decode cX6_year 78 = .ok (.getfield 145, 3) := dk_180 0 145 (dk_at dksX6_year_3 10 rfl rfl)
theorem dX6_year_81 : decode cX6_year 81 = .ok (.ifCond .ne 51, 3) := dk_154 0 51 (dk_at dksX6_year_3 13 rfl rfl)
theorem dX6_year_84 : decode cX6_year 84 = .ok (.aload_n 0, 1) := dk_42 (dk_at dksX6_year_3 16 rfl rfl)
theorem dX6_year_85 : decode cX6_year 85 = .ok (.getfield 7, 3) := dk_180 0 7 (dk_at dksX6_year_3 17 rfl rfl)
theorem dX6_year_88 : decode cX6_year 88 = .ok (.bipush 9, 2) := dk_16 9 (dk_at dksX6_year_3 20 rfl rfl)
theorem dX6_year_90 : decode cX6_year 90 = .ok (.aload_n 0, 1) := dk_42 (dk_at dksX6_year_3 22 rfl rfl)
theorem dX6_year_91 : decode cX6_year 91 = .ok (.getfield 7, 3) := dk_180 0 7 (dk_at dksX6_year_4 0 rfl rfl)
theorem dX6_year_94 : decode cX6_year 94 = .ok (.sipush 2009, 3) := dk_17 7 217 (dk_at dksX6_year_4 3 rfl rfl)
theorem dX6_year_97 : decode cX6_year 97 = .ok (.iaload, 1) := dk_46 (dk_at dksX6_year_4 6 rfl rfl)
theorem dX6_year_98 : decode cX6_year 98 = .ok (.iastore, 1) := dk_79 (dk_at dksX6_year_4 7 rfl rfl)
theorem dX6_year_99 : decode cX6_year 99 = .ok (.sipush 130, 3) := dk_17 0 130 (dk_at dksX6_year_4 8 rfl rfl)
theorem dX6_year_102 : decode cX6_year 102 = .ok (.istore_n 3, 1) := dk_62 (dk_at dksX6_year_4 11 rfl rfl)
theorem dX6_year_103 : decode cX6_year 103 = .ok (.iload_n 3, 1) := dk_29 (dk_at dksX6_year_4 12 rfl rfl)
theorem dX6_year_104 : decode cX6_year 104 = .ok (.sipush 495, 3) := dk_17 1 239 (dk_at dksX6_year_4 13 rfl rfl)
theorem dX6_year_107 : decode cX6_year 107 = .ok (.if_icmp .ge 25, 3) := dk_162 0 25 (dk_at dksX6_year_4 16 rfl rfl)
theorem dX6_year_110 : decode cX6_year 110 = .ok (.aload_n 0, 1) := dk_42 (dk_at dksX6_year_4 19 rfl rfl)
theorem dX6_year_111 : decode cX6_year 111 = .ok (.getfield 7, 3) := dk_180 0 7 (dk_at dksX6_year_4 20 rfl rfl)
theorem dX6_year_114 : decode cX6_year 114 = .ok (.iload_n 3, 1) := dk_29 (dk_at dksX6_year_4 23 rfl rfl)
theorem dX6_year_115 : decode cX6_year 115 = .ok (.aload_n 0, 1) := dk_42 (dk_at dksX6_year_5 0 rfl rfl)
theorem dX6_year_116 : decode cX6_year 116 = .ok (.getfield 7, 3) := dk_180 0 7 (dk_at dksX6_year_5 1 rfl rfl)
theorem dX6_year_119 : decode cX6_year 119 = .ok (.sipush 2000, 3) := dk_17 7 208 (dk_at dksX6_year_5 4 rfl rfl)
theorem dX6_year_122 : decode cX6_year 122 = .ok (.iload_n 3, 1) := dk_29 (dk_at dksX6_year_5 7 rfl rfl)
theorem dX6_year_123 : decode cX6_year 123 = .ok (.iadd, 1) := dk_96 (dk_at dksX6_year_5 8 rfl rfl)
theorem dX6_year_124 : decode cX6_year 124 = .ok (.iaload, 1) := dk_46 (dk_at dksX6_year_5 9 rfl rfl)
theorem dX6_year_125 : decode cX6_year 125 = .ok (.iastore, 1) := dk_79 (dk_at dksX6_year_5 10 rfl rfl)
theorem dX6_year_126 : decode cX6_year 126 = .ok (.iinc 3 1, 3) := dk_132 3 1 (dk_at dksX6_year_5 11 rfl rfl)
theorem dX6_year_129 : decode cX6_year 129 = .ok (.goto (-26), 3) := dk_167 255 230 (dk_at dksX6_year_5 14 rfl rfl)
theorem dX6_year_132 : decode cX6_year 132 = .ok (.aload_n 0, 1) := dk_42 (dk_at dksX6_year_5 17 rfl rfl)
theorem dX6_year_133 : decode cX6_year 133 = .ok (.aload_n 0, 1) := dk_42 (dk_at dksX6_year_5 18 rfl rfl)
theorem dX6_year_134 : decode cX6_year 134 = .ok (.getfield 239, 3) := dk_180 0 239 (dk_at dksX6_year_5 19 rfl rfl)
theorem dX6_year_137 : decode cX6_year 137 = .ok (.invokevirtual 223, 3) := dk_182 0 223 (dk_at dksX6_year_6 0 rfl rfl)
theorem dX6_year_140 : decode cX6_year 140 = .ok (.ireturn, 1) := dk_172 (dk_at dksX6_year_6 3 rfl rfl)
abbrev cX6_yearStep : ByteArray := prog_16_method_51_code
def yX6_yearStep : MethodName := ⟨RX6, "yearStep", "()Z"⟩
def dkwX6_yearStep_12 : List UInt8 := [180, 0, 44, 42, 180, 0, 236, 46, 104, 96, 7, 96, 28, 79, 42, 16, 59, 182, 0, 214, 172]
abbrev dktX6_yearStep_12 : List UInt8 := dkwX6_yearStep_12 ++ []
def dkwX6_yearStep_11 : List UInt8 := [7, 96, 42, 180, 0, 44, 42, 180, 0, 236, 46, 79, 42, 180, 0, 7, 17, 8, 82, 16, 6, 42]
abbrev dktX6_yearStep_11 : List UInt8 := dkwX6_yearStep_11 ++ dktX6_yearStep_12
def dkwX6_yearStep_10 : List UInt8 := [181, 0, 236, 27, 16, 26, 160, 0, 54, 42, 89, 180, 0, 236, 4, 100, 181, 0, 236, 42, 180, 0, 7, 29]
abbrev dktX6_yearStep_10 : List UInt8 := dkwX6_yearStep_10 ++ dktX6_yearStep_11
def dkwX6_yearStep_9 : List UInt8 := [21, 4, 153, 0, 23, 42, 180, 0, 44, 42, 180, 0, 236, 28, 79, 42, 89, 180, 0, 236, 4, 96]
abbrev dktX6_yearStep_9 : List UInt8 := dkwX6_yearStep_9 ++ dktX6_yearStep_10
def dkwX6_yearStep_8 : List UInt8 := [17, 7, 217, 92, 46, 4, 96, 79, 42, 182, 0, 151, 42, 27, 29, 182, 0, 242, 154, 0, 5, 3, 172]
abbrev dktX6_yearStep_8 : List UInt8 := dkwX6_yearStep_8 ++ dktX6_yearStep_9
def dkwX6_yearStep_7 : List UInt8 := [162, 0, 19, 42, 180, 0, 7, 29, 21, 5, 96, 3, 79, 132, 5, 1, 167, 255, 236, 42, 180, 0, 7]
abbrev dktX6_yearStep_7 : List UInt8 := dkwX6_yearStep_7 ++ dktX6_yearStep_8
def dkwX6_yearStep_6 : List UInt8 := [167, 0, 4, 4, 96, 181, 0, 239, 42, 180, 0, 7, 29, 27, 79, 4, 54, 5, 21, 5, 16, 6]
abbrev dktX6_yearStep_6 : List UInt8 := dkwX6_yearStep_6 ++ dktX6_yearStep_7
def dkwX6_yearStep_5 : List UInt8 := [6, 160, 0, 10, 42, 16, 7, 182, 0, 157, 172, 42, 89, 180, 0, 239, 27, 16, 26, 160, 0, 7, 3]
abbrev dktX6_yearStep_5 : List UInt8 := dkwX6_yearStep_5 ++ dktX6_yearStep_6
def dkwX6_yearStep_4 : List UInt8 := [180, 0, 239, 16, 30, 160, 0, 10, 42, 16, 6, 182, 0, 157, 172, 21, 4, 153, 0, 18, 42, 180, 0, 236]
abbrev dktX6_yearStep_4 : List UInt8 := dkwX6_yearStep_4 ++ dktX6_yearStep_5
def dkwX6_yearStep_3 : List UInt8 := [160, 0, 16, 42, 180, 0, 236, 154, 0, 9, 42, 5, 182, 0, 157, 172, 27, 16, 26, 159, 0, 19, 42]
abbrev dktX6_yearStep_3 : List UInt8 := dkwX6_yearStep_3 ++ dktX6_yearStep_4
def dkwX6_yearStep_2 : List UInt8 := [161, 0, 34, 27, 16, 27, 163, 0, 28, 27, 16, 22, 159, 0, 22, 27, 16, 23, 159, 0, 16, 27, 16, 26]
abbrev dktX6_yearStep_2 : List UInt8 := dkwX6_yearStep_2 ++ dktX6_yearStep_3
def dkwX6_yearStep_1 : List UInt8 := [62, 27, 16, 24, 159, 0, 9, 27, 16, 25, 160, 0, 7, 4, 167, 0, 4, 3, 54, 4, 27, 16, 17]
abbrev dktX6_yearStep_1 : List UInt8 := dkwX6_yearStep_1 ++ dktX6_yearStep_2
def dkwX6_yearStep_0 : List UInt8 := [42, 18, 168, 182, 0, 160, 60, 42, 180, 0, 7, 17, 7, 217, 46, 61, 17, 8, 82, 16, 6, 28, 104, 96]
abbrev dktX6_yearStep_0 : List UInt8 := dkwX6_yearStep_0 ++ dktX6_yearStep_1
theorem dksX6_yearStep_0 : cX6_yearStep.data.toList.drop 0 = dktX6_yearStep_0 := by decide +kernel
theorem dksX6_yearStep_1 : cX6_yearStep.data.toList.drop 24 = dktX6_yearStep_1 := dk_seg dksX6_yearStep_0 24 rfl rfl
theorem dksX6_yearStep_2 : cX6_yearStep.data.toList.drop 47 = dktX6_yearStep_2 := dk_seg dksX6_yearStep_1 23 rfl rfl
theorem dksX6_yearStep_3 : cX6_yearStep.data.toList.drop 71 = dktX6_yearStep_3 := dk_seg dksX6_yearStep_2 24 rfl rfl
theorem dksX6_yearStep_4 : cX6_yearStep.data.toList.drop 94 = dktX6_yearStep_4 := dk_seg dksX6_yearStep_3 23 rfl rfl
theorem dksX6_yearStep_5 : cX6_yearStep.data.toList.drop 118 = dktX6_yearStep_5 := dk_seg dksX6_yearStep_4 24 rfl rfl
theorem dksX6_yearStep_6 : cX6_yearStep.data.toList.drop 141 = dktX6_yearStep_6 := dk_seg dksX6_yearStep_5 23 rfl rfl
theorem dksX6_yearStep_7 : cX6_yearStep.data.toList.drop 163 = dktX6_yearStep_7 := dk_seg dksX6_yearStep_6 22 rfl rfl
theorem dksX6_yearStep_8 : cX6_yearStep.data.toList.drop 186 = dktX6_yearStep_8 := dk_seg dksX6_yearStep_7 23 rfl rfl
theorem dksX6_yearStep_9 : cX6_yearStep.data.toList.drop 209 = dktX6_yearStep_9 := dk_seg dksX6_yearStep_8 23 rfl rfl
theorem dksX6_yearStep_10 : cX6_yearStep.data.toList.drop 231 = dktX6_yearStep_10 := dk_seg dksX6_yearStep_9 22 rfl rfl
theorem dksX6_yearStep_11 : cX6_yearStep.data.toList.drop 255 = dktX6_yearStep_11 := dk_seg dksX6_yearStep_10 24 rfl rfl
theorem dksX6_yearStep_12 : cX6_yearStep.data.toList.drop 277 = dktX6_yearStep_12 := dk_seg dksX6_yearStep_11 22 rfl rfl
theorem dX6_yearStep_0 : decode cX6_yearStep 0 = .ok (.aload_n 0, 1) := dk_42 (dk_at dksX6_yearStep_0 0 rfl rfl)
theorem dX6_yearStep_1 : decode cX6_yearStep 1 = .ok (.ldc 168, 2) := dk_18 168 (dk_at dksX6_yearStep_0 1 rfl rfl)
theorem dX6_yearStep_3 : decode cX6_yearStep 3 = .ok (.invokevirtual 160, 3) := dk_182 0 160 (dk_at dksX6_yearStep_0 3 rfl rfl)
theorem dX6_yearStep_6 : decode cX6_yearStep 6 = .ok (.istore_n 1, 1) := dk_60 (dk_at dksX6_yearStep_0 6 rfl rfl)
theorem dX6_yearStep_7 : decode cX6_yearStep 7 = .ok (.aload_n 0, 1) := dk_42 (dk_at dksX6_yearStep_0 7 rfl rfl)
theorem dX6_yearStep_8 : decode cX6_yearStep 8 = .ok (.getfield 7, 3) := dk_180 0 7 (dk_at dksX6_yearStep_0 8 rfl rfl)
theorem dX6_yearStep_11 : decode cX6_yearStep 11 = .ok (.sipush 2009, 3) := dk_17 7 217 (dk_at dksX6_yearStep_0 11 rfl rfl)
theorem dX6_yearStep_14 : decode cX6_yearStep 14 = .ok (.iaload, 1) := dk_46 (dk_at dksX6_yearStep_0 14 rfl rfl)
theorem dX6_yearStep_15 : decode cX6_yearStep 15 = .ok (.istore_n 2, 1) := dk_61 (dk_at dksX6_yearStep_0 15 rfl rfl)
theorem dX6_yearStep_16 : decode cX6_yearStep 16 = .ok (.sipush 2130, 3) := dk_17 8 82 (dk_at dksX6_yearStep_0 16 rfl rfl)
theorem dX6_yearStep_19 : decode cX6_yearStep 19 = .ok (.bipush 6, 2) := dk_16 6 (dk_at dksX6_yearStep_0 19 rfl rfl)
theorem dX6_yearStep_21 : decode cX6_yearStep 21 = .ok (.iload_n 2, 1) := dk_28 (dk_at dksX6_yearStep_0 21 rfl rfl)
theorem dX6_yearStep_22 : decode cX6_yearStep 22 = .ok (.imul, 1) := dk_104 (dk_at dksX6_yearStep_0 22 rfl rfl)
theorem dX6_yearStep_23 : decode cX6_yearStep 23 = .ok (.iadd, 1) := dk_96 (dk_at dksX6_yearStep_0 23 rfl rfl)
theorem dX6_yearStep_24 : decode cX6_yearStep 24 = .ok (.istore_n 3, 1) := dk_62 (dk_at dksX6_yearStep_1 0 rfl rfl)
theorem dX6_yearStep_25 : decode cX6_yearStep 25 = .ok (.iload_n 1, 1) := dk_27 (dk_at dksX6_yearStep_1 1 rfl rfl)
theorem dX6_yearStep_26 : decode cX6_yearStep 26 = .ok (.bipush 24, 2) := dk_16 24 (dk_at dksX6_yearStep_1 2 rfl rfl)
theorem dX6_yearStep_28 : decode cX6_yearStep 28 = .ok (.if_icmp .eq 9, 3) := dk_159 0 9 (dk_at dksX6_yearStep_1 4 rfl rfl)
theorem dX6_yearStep_31 : decode cX6_yearStep 31 = .ok (.iload_n 1, 1) := dk_27 (dk_at dksX6_yearStep_1 7 rfl rfl)
theorem dX6_yearStep_32 : decode cX6_yearStep 32 = .ok (.bipush 25, 2) := dk_16 25 (dk_at dksX6_yearStep_1 8 rfl rfl)
theorem dX6_yearStep_34 : decode cX6_yearStep 34 = .ok (.if_icmp .ne 7, 3) := dk_160 0 7 (dk_at dksX6_yearStep_1 10 rfl rfl)
theorem dX6_yearStep_37 : decode cX6_yearStep 37 = .ok (.iconst 1, 1) := dk_4 (dk_at dksX6_yearStep_1 13 rfl rfl)
theorem dX6_yearStep_38 : decode cX6_yearStep 38 = .ok (.goto 4, 3) := dk_167 0 4 (dk_at dksX6_yearStep_1 14 rfl rfl)
theorem dX6_yearStep_41 : decode cX6_yearStep 41 = .ok (.iconst 0, 1) := dk_3 (dk_at dksX6_yearStep_1 17 rfl rfl)
theorem dX6_yearStep_42 : decode cX6_yearStep 42 = .ok (.istore 4, 2) := dk_54 4 (dk_at dksX6_yearStep_1 18 rfl rfl)
theorem dX6_yearStep_44 : decode cX6_yearStep 44 = .ok (.iload_n 1, 1) := dk_27 (dk_at dksX6_yearStep_1 20 rfl rfl)
theorem dX6_yearStep_45 : decode cX6_yearStep 45 = .ok (.bipush 17, 2) := dk_16 17 (dk_at dksX6_yearStep_1 21 rfl rfl)
theorem dX6_yearStep_47 : decode cX6_yearStep 47 = .ok (.if_icmp .lt 34, 3) := dk_161 0 34 (dk_at dksX6_yearStep_2 0 rfl rfl)
theorem dX6_yearStep_50 : decode cX6_yearStep 50 = .ok (.iload_n 1, 1) := dk_27 (dk_at dksX6_yearStep_2 3 rfl rfl)
theorem dX6_yearStep_51 : decode cX6_yearStep 51 = .ok (.bipush 27, 2) := dk_16 27 (dk_at dksX6_yearStep_2 4 rfl rfl)
theorem dX6_yearStep_53 : decode cX6_yearStep 53 = .ok (.if_icmp .gt 28, 3) := dk_163 0 28 (dk_at dksX6_yearStep_2 6 rfl rfl)
theorem dX6_yearStep_56 : decode cX6_yearStep 56 = .ok (.iload_n 1, 1) := dk_27 (dk_at dksX6_yearStep_2 9 rfl rfl)
theorem dX6_yearStep_57 : decode cX6_yearStep 57 = .ok (.bipush 22, 2) := dk_16 22 (dk_at dksX6_yearStep_2 10 rfl rfl)
theorem dX6_yearStep_59 : decode cX6_yearStep 59 = .ok (.if_icmp .eq 22, 3) := dk_159 0 22 (dk_at dksX6_yearStep_2 12 rfl rfl)
theorem dX6_yearStep_62 : decode cX6_yearStep 62 = .ok (.iload_n 1, 1) := dk_27 (dk_at dksX6_yearStep_2 15 rfl rfl)
theorem dX6_yearStep_63 : decode cX6_yearStep 63 = .ok (.bipush 23, 2) := dk_16 23 (dk_at dksX6_yearStep_2 16 rfl rfl)
theorem dX6_yearStep_65 : decode cX6_yearStep 65 = .ok (.if_icmp .eq 16, 3) := dk_159 0 16 (dk_at dksX6_yearStep_2 18 rfl rfl)
theorem dX6_yearStep_68 : decode cX6_yearStep 68 = .ok (.iload_n 1, 1) := dk_27 (dk_at dksX6_yearStep_2 21 rfl rfl)
theorem dX6_yearStep_69 : decode cX6_yearStep 69 = .ok (.bipush 26, 2) := dk_16 26 (dk_at dksX6_yearStep_2 22 rfl rfl)
theorem dX6_yearStep_71 : decode cX6_yearStep 71 = .ok (.if_icmp .ne 16, 3) := dk_160 0 16 (dk_at dksX6_yearStep_3 0 rfl rfl)
theorem dX6_yearStep_74 : decode cX6_yearStep 74 = .ok (.aload_n 0, 1) := dk_42 (dk_at dksX6_yearStep_3 3 rfl rfl)
theorem dX6_yearStep_75 : decode cX6_yearStep 75 = .ok (.getfield 236, 3) := dk_180 0 236 (dk_at dksX6_yearStep_3 4 rfl rfl)
theorem dX6_yearStep_78 : decode cX6_yearStep 78 = .ok (.ifCond .ne 9, 3) := dk_154 0 9 (dk_at dksX6_yearStep_3 7 rfl rfl)
theorem dX6_yearStep_81 : decode cX6_yearStep 81 = .ok (.aload_n 0, 1) := dk_42 (dk_at dksX6_yearStep_3 10 rfl rfl)
theorem dX6_yearStep_82 : decode cX6_yearStep 82 = .ok (.iconst 2, 1) := dk_5 (dk_at dksX6_yearStep_3 11 rfl rfl)
theorem dX6_yearStep_83 : decode cX6_yearStep 83 = .ok (.invokevirtual 157, 3) := dk_182 0 157 (dk_at dksX6_yearStep_3 12 rfl rfl)
theorem dX6_yearStep_86 : decode cX6_yearStep 86 = .ok (.ireturn, 1) := dk_172 (dk_at dksX6_yearStep_3 15 rfl rfl)
theorem dX6_yearStep_87 : decode cX6_yearStep 87 = .ok (.iload_n 1, 1) := dk_27 (dk_at dksX6_yearStep_3 16 rfl rfl)
theorem dX6_yearStep_88 : decode cX6_yearStep 88 = .ok (.bipush 26, 2) := dk_16 26 (dk_at dksX6_yearStep_3 17 rfl rfl)
theorem dX6_yearStep_90 : decode cX6_yearStep 90 = .ok (.if_icmp .eq 19, 3) := dk_159 0 19 (dk_at dksX6_yearStep_3 19 rfl rfl)
theorem dX6_yearStep_93 : decode cX6_yearStep 93 = .ok (.aload_n 0, 1) := dk_42 (dk_at dksX6_yearStep_3 22 rfl rfl)
theorem dX6_yearStep_94 : decode cX6_yearStep 94 = .ok (.getfield 239, 3) := dk_180 0 239 (dk_at dksX6_yearStep_4 0 rfl rfl)
theorem dX6_yearStep_97 : decode cX6_yearStep 97 = .ok (.bipush 30, 2) := dk_16 30 (dk_at dksX6_yearStep_4 3 rfl rfl)
theorem dX6_yearStep_99 : decode cX6_yearStep 99 = .ok (.if_icmp .ne 10, 3) := dk_160 0 10 (dk_at dksX6_yearStep_4 5 rfl rfl)
theorem dX6_yearStep_102 : decode cX6_yearStep 102 = .ok (.aload_n 0, 1) := dk_42 (dk_at dksX6_yearStep_4 8 rfl rfl)
theorem dX6_yearStep_103 : decode cX6_yearStep 103 = .ok (.bipush 6, 2) := dk_16 6 (dk_at dksX6_yearStep_4 9 rfl rfl)
theorem dX6_yearStep_105 : decode cX6_yearStep 105 = .ok (.invokevirtual 157, 3) := dk_182 0 157 (dk_at dksX6_yearStep_4 11 rfl rfl)
theorem dX6_yearStep_108 : decode cX6_yearStep 108 = .ok (.ireturn, 1) := dk_172 (dk_at dksX6_yearStep_4 14 rfl rfl)
theorem dX6_yearStep_109 : decode cX6_yearStep 109 = .ok (.iload 4, 2) := dk_21 4 (dk_at dksX6_yearStep_4 15 rfl rfl)
theorem dX6_yearStep_111 : decode cX6_yearStep 111 = .ok (.ifCond .eq 18, 3) := dk_153 0 18 (dk_at dksX6_yearStep_4 17 rfl rfl)
theorem dX6_yearStep_114 : decode cX6_yearStep 114 = .ok (.aload_n 0, 1) := dk_42 (dk_at dksX6_yearStep_4 20 rfl rfl)
theorem dX6_yearStep_115 : decode cX6_yearStep 115 = .ok (.getfield 236, 3) := dk_180 0 236 (dk_at dksX6_yearStep_4 21 rfl rfl)
theorem dX6_yearStep_118 : decode cX6_yearStep 118 = .ok (.iconst 3, 1) := dk_6 (dk_at dksX6_yearStep_5 0 rfl rfl)
theorem dX6_yearStep_119 : decode cX6_yearStep 119 = .ok (.if_icmp .ne 10, 3) := dk_160 0 10 (dk_at dksX6_yearStep_5 1 rfl rfl)
theorem dX6_yearStep_122 : decode cX6_yearStep 122 = .ok (.aload_n 0, 1) := dk_42 (dk_at dksX6_yearStep_5 4 rfl rfl)
theorem dX6_yearStep_123 : decode cX6_yearStep 123 = .ok (.bipush 7, 2) := dk_16 7 (dk_at dksX6_yearStep_5 5 rfl rfl)
theorem dX6_yearStep_125 : decode cX6_yearStep 125 = .ok (.invokevirtual 157, 3) := dk_182 0 157 (dk_at dksX6_yearStep_5 7 rfl rfl)
theorem dX6_yearStep_128 : decode cX6_yearStep 128 = .ok (.ireturn, 1) := dk_172 (dk_at dksX6_yearStep_5 10 rfl rfl)
theorem dX6_yearStep_129 : decode cX6_yearStep 129 = .ok (.aload_n 0, 1) := dk_42 (dk_at dksX6_yearStep_5 11 rfl rfl)
theorem dX6_yearStep_130 : decode cX6_yearStep 130 = .ok (.dup, 1) := dk_89 (dk_at dksX6_yearStep_5 12 rfl rfl)
theorem dX6_yearStep_131 : decode cX6_yearStep 131 = .ok (.getfield 239, 3) := dk_180 0 239 (dk_at dksX6_yearStep_5 13 rfl rfl)
theorem dX6_yearStep_134 : decode cX6_yearStep 134 = .ok (.iload_n 1, 1) := dk_27 (dk_at dksX6_yearStep_5 16 rfl rfl)
theorem dX6_yearStep_135 : decode cX6_yearStep 135 = .ok (.bipush 26, 2) := dk_16 26 (dk_at dksX6_yearStep_5 17 rfl rfl)
theorem dX6_yearStep_137 : decode cX6_yearStep 137 = .ok (.if_icmp .ne 7, 3) := dk_160 0 7 (dk_at dksX6_yearStep_5 19 rfl rfl)
theorem dX6_yearStep_140 : decode cX6_yearStep 140 = .ok (.iconst 0, 1) := dk_3 (dk_at dksX6_yearStep_5 22 rfl rfl)
theorem dX6_yearStep_141 : decode cX6_yearStep 141 = .ok (.goto 4, 3) := dk_167 0 4 (dk_at dksX6_yearStep_6 0 rfl rfl)
theorem dX6_yearStep_144 : decode cX6_yearStep 144 = .ok (.iconst 1, 1) := dk_4 (dk_at dksX6_yearStep_6 3 rfl rfl)
theorem dX6_yearStep_145 : decode cX6_yearStep 145 = .ok (.iadd, 1) := dk_96 (dk_at dksX6_yearStep_6 4 rfl rfl)
theorem dX6_yearStep_146 : decode cX6_yearStep 146 = .ok (.putfield 239, 3) := dk_181 0 239 (dk_at dksX6_yearStep_6 5 rfl rfl)
theorem dX6_yearStep_149 : decode cX6_yearStep 149 = .ok (.aload_n 0, 1) := dk_42 (dk_at dksX6_yearStep_6 8 rfl rfl)
theorem dX6_yearStep_150 : decode cX6_yearStep 150 = .ok (.getfield 7, 3) := dk_180 0 7 (dk_at dksX6_yearStep_6 9 rfl rfl)
theorem dX6_yearStep_153 : decode cX6_yearStep 153 = .ok (.iload_n 3, 1) := dk_29 (dk_at dksX6_yearStep_6 12 rfl rfl)
theorem dX6_yearStep_154 : decode cX6_yearStep 154 = .ok (.iload_n 1, 1) := dk_27 (dk_at dksX6_yearStep_6 13 rfl rfl)
theorem dX6_yearStep_155 : decode cX6_yearStep 155 = .ok (.iastore, 1) := dk_79 (dk_at dksX6_yearStep_6 14 rfl rfl)
theorem dX6_yearStep_156 : decode cX6_yearStep 156 = .ok (.iconst 1, 1) := dk_4 (dk_at dksX6_yearStep_6 15 rfl rfl)
theorem dX6_yearStep_157 : decode cX6_yearStep 157 = .ok (.istore 5, 2) := dk_54 5 (dk_at dksX6_yearStep_6 16 rfl rfl)
theorem dX6_yearStep_159 : decode cX6_yearStep 159 = .ok (.iload 5, 2) := dk_21 5 (dk_at dksX6_yearStep_6 18 rfl rfl)
theorem dX6_yearStep_161 : decode cX6_yearStep 161 = .ok (.bipush 6, 2) := dk_16 6 (dk_at dksX6_yearStep_6 20 rfl rfl)
theorem dX6_yearStep_163 : decode cX6_yearStep 163 = .ok (.if_icmp .ge 19, 3) := dk_162 0 19 (dk_at dksX6_yearStep_7 0 rfl rfl)
theorem dX6_yearStep_166 : decode cX6_yearStep 166 = .ok (.aload_n 0, 1) := dk_42 (dk_at dksX6_yearStep_7 3 rfl rfl)
theorem dX6_yearStep_167 : decode cX6_yearStep 167 = .ok (.getfield 7, 3) := dk_180 0 7 (dk_at dksX6_yearStep_7 4 rfl rfl)
theorem dX6_yearStep_170 : decode cX6_yearStep 170 = .ok (.iload_n 3, 1) := dk_29 (dk_at dksX6_yearStep_7 7 rfl rfl)
theorem dX6_yearStep_171 : decode cX6_yearStep 171 = .ok (.iload 5, 2) := dk_21 5 (dk_at dksX6_yearStep_7 8 rfl rfl)
theorem dX6_yearStep_173 : decode cX6_yearStep 173 = .ok (.iadd, 1) := dk_96 (dk_at dksX6_yearStep_7 10 rfl rfl)
theorem dX6_yearStep_174 : decode cX6_yearStep 174 = .ok (.iconst 0, 1) := dk_3 (dk_at dksX6_yearStep_7 11 rfl rfl)
theorem dX6_yearStep_175 : decode cX6_yearStep 175 = .ok (.iastore, 1) := dk_79 (dk_at dksX6_yearStep_7 12 rfl rfl)
theorem dX6_yearStep_176 : decode cX6_yearStep 176 = .ok (.iinc 5 1, 3) := dk_132 5 1 (dk_at dksX6_yearStep_7 13 rfl rfl)
theorem dX6_yearStep_179 : decode cX6_yearStep 179 = .ok (.goto (-20), 3) := dk_167 255 236 (dk_at dksX6_yearStep_7 16 rfl rfl)
theorem dX6_yearStep_182 : decode cX6_yearStep 182 = .ok (.aload_n 0, 1) := dk_42 (dk_at dksX6_yearStep_7 19 rfl rfl)
theorem dX6_yearStep_183 : decode cX6_yearStep 183 = .ok (.getfield 7, 3) := dk_180 0 7 (dk_at dksX6_yearStep_7 20 rfl rfl)
theorem dX6_yearStep_186 : decode cX6_yearStep 186 = .ok (.sipush 2009, 3) := dk_17 7 217 (dk_at dksX6_yearStep_8 0 rfl rfl)
theorem dX6_yearStep_189 : decode cX6_yearStep 189 = .ok (.dup2, 1) := dk_92 (dk_at dksX6_yearStep_8 3 rfl rfl)
theorem dX6_yearStep_190 : decode cX6_yearStep 190 = .ok (.iaload, 1) := dk_46 (dk_at dksX6_yearStep_8 4 rfl rfl)
theorem dX6_yearStep_191 : decode cX6_yearStep 191 = .ok (.iconst 1, 1) := dk_4 (dk_at dksX6_yearStep_8 5 rfl rfl)
theorem dX6_yearStep_192 : decode cX6_yearStep 192 = .ok (.iadd, 1) := dk_96 (dk_at dksX6_yearStep_8 6 rfl rfl)
theorem dX6_yearStep_193 : decode cX6_yearStep 193 = .ok (.iastore, 1) := dk_79 (dk_at dksX6_yearStep_8 7 rfl rfl)
theorem dX6_yearStep_194 : decode cX6_yearStep 194 = .ok (.aload_n 0, 1) := dk_42 (dk_at dksX6_yearStep_8 8 rfl rfl)
theorem dX6_yearStep_195 : decode cX6_yearStep 195 = .ok (.invokevirtual 151, 3) := dk_182 0 151 (dk_at dksX6_yearStep_8 9 rfl rfl)
theorem dX6_yearStep_198 : decode cX6_yearStep 198 = .ok (.aload_n 0, 1) := dk_42 (dk_at dksX6_yearStep_8 12 rfl rfl)
theorem dX6_yearStep_199 : decode cX6_yearStep 199 = .ok (.iload_n 1, 1) := dk_27 (dk_at dksX6_yearStep_8 13 rfl rfl)
theorem dX6_yearStep_200 : decode cX6_yearStep 200 = .ok (.iload_n 3, 1) := dk_29 (dk_at dksX6_yearStep_8 14 rfl rfl)
theorem dX6_yearStep_201 : decode cX6_yearStep 201 = .ok (.invokevirtual 242, 3) := dk_182 0 242 (dk_at dksX6_yearStep_8 15 rfl rfl)
theorem dX6_yearStep_204 : decode cX6_yearStep 204 = .ok (.ifCond .ne 5, 3) := dk_154 0 5 (dk_at dksX6_yearStep_8 18 rfl rfl)
theorem dX6_yearStep_207 : decode cX6_yearStep 207 = .ok (.iconst 0, 1) := dk_3 (dk_at dksX6_yearStep_8 21 rfl rfl)
theorem dX6_yearStep_208 : decode cX6_yearStep 208 = .ok (.ireturn, 1) := dk_172 (dk_at dksX6_yearStep_8 22 rfl rfl)
theorem dX6_yearStep_209 : decode cX6_yearStep 209 = .ok (.iload 4, 2) := dk_21 4 (dk_at dksX6_yearStep_9 0 rfl rfl)
theorem dX6_yearStep_211 : decode cX6_yearStep 211 = .ok (.ifCond .eq 23, 3) := dk_153 0 23 (dk_at dksX6_yearStep_9 2 rfl rfl)
theorem dX6_yearStep_214 : decode cX6_yearStep 214 = .ok (.aload_n 0, 1) := dk_42 (dk_at dksX6_yearStep_9 5 rfl rfl)
theorem dX6_yearStep_215 : decode cX6_yearStep 215 = .ok (.getfield 44, 3) := dk_180 0 44 (dk_at dksX6_yearStep_9 6 rfl rfl)
theorem dX6_yearStep_218 : decode cX6_yearStep 218 = .ok (.aload_n 0, 1) := dk_42 (dk_at dksX6_yearStep_9 9 rfl rfl)
theorem dX6_yearStep_219 : decode cX6_yearStep 219 = .ok (.getfield 236, 3) := dk_180 0 236 (dk_at dksX6_yearStep_9 10 rfl rfl)
theorem dX6_yearStep_222 : decode cX6_yearStep 222 = .ok (.iload_n 2, 1) := dk_28 (dk_at dksX6_yearStep_9 13 rfl rfl)
theorem dX6_yearStep_223 : decode cX6_yearStep 223 = .ok (.iastore, 1) := dk_79 (dk_at dksX6_yearStep_9 14 rfl rfl)
theorem dX6_yearStep_224 : decode cX6_yearStep 224 = .ok (.aload_n 0, 1) := dk_42 (dk_at dksX6_yearStep_9 15 rfl rfl)
theorem dX6_yearStep_225 : decode cX6_yearStep 225 = .ok (.dup, 1) := dk_89 (dk_at dksX6_yearStep_9 16 rfl rfl)
theorem dX6_yearStep_226 : decode cX6_yearStep 226 = .ok (.getfield 236, 3) := dk_180 0 236 (dk_at dksX6_yearStep_9 17 rfl rfl)
theorem dX6_yearStep_229 : decode cX6_yearStep 229 = .ok (.iconst 1, 1) := dk_4 (dk_at dksX6_yearStep_9 20 rfl rfl)
theorem dX6_yearStep_230 : decode cX6_yearStep 230 = .ok (.iadd, 1) := dk_96 (dk_at dksX6_yearStep_9 21 rfl rfl)
theorem dX6_yearStep_231 : decode cX6_yearStep 231 = .ok (.putfield 236, 3) := dk_181 0 236 (dk_at dksX6_yearStep_10 0 rfl rfl)
theorem dX6_yearStep_234 : decode cX6_yearStep 234 = .ok (.iload_n 1, 1) := dk_27 (dk_at dksX6_yearStep_10 3 rfl rfl)
theorem dX6_yearStep_235 : decode cX6_yearStep 235 = .ok (.bipush 26, 2) := dk_16 26 (dk_at dksX6_yearStep_10 4 rfl rfl)
theorem dX6_yearStep_237 : decode cX6_yearStep 237 = .ok (.if_icmp .ne 54, 3) := dk_160 0 54 (dk_at dksX6_yearStep_10 6 rfl rfl)
theorem dX6_yearStep_240 : decode cX6_yearStep 240 = .ok (.aload_n 0, 1) := dk_42 (dk_at dksX6_yearStep_10 9 rfl rfl)
theorem dX6_yearStep_241 : decode cX6_yearStep 241 = .ok (.dup, 1) := dk_89 (dk_at dksX6_yearStep_10 10 rfl rfl)
theorem dX6_yearStep_242 : decode cX6_yearStep 242 = .ok (.getfield 236, 3) := dk_180 0 236 (dk_at dksX6_yearStep_10 11 rfl rfl)
theorem dX6_yearStep_245 : decode cX6_yearStep 245 = .ok (.iconst 1, 1) := dk_4 (dk_at dksX6_yearStep_10 14 rfl rfl)
theorem dX6_yearStep_246 : decode cX6_yearStep 246 = .ok (.isub, 1) := dk_100 (dk_at dksX6_yearStep_10 15 rfl rfl)
theorem dX6_yearStep_247 : decode cX6_yearStep 247 = .ok (.putfield 236, 3) := dk_181 0 236 (dk_at dksX6_yearStep_10 16 rfl rfl)
theorem dX6_yearStep_250 : decode cX6_yearStep 250 = .ok (.aload_n 0, 1) := dk_42 (dk_at dksX6_yearStep_10 19 rfl rfl)
theorem dX6_yearStep_251 : decode cX6_yearStep 251 = .ok (.getfield 7, 3) := dk_180 0 7 (dk_at dksX6_yearStep_10 20 rfl rfl)
theorem dX6_yearStep_254 : decode cX6_yearStep 254 = .ok (.iload_n 3, 1) := dk_29 (dk_at dksX6_yearStep_10 23 rfl rfl)
theorem dX6_yearStep_255 : decode cX6_yearStep 255 = .ok (.iconst 4, 1) := dk_7 (dk_at dksX6_yearStep_11 0 rfl rfl)
theorem dX6_yearStep_256 : decode cX6_yearStep 256 = .ok (.iadd, 1) := dk_96 (dk_at dksX6_yearStep_11 1 rfl rfl)
theorem dX6_yearStep_257 : decode cX6_yearStep 257 = .ok (.aload_n 0, 1) := dk_42 (dk_at dksX6_yearStep_11 2 rfl rfl)
theorem dX6_yearStep_258 : decode cX6_yearStep 258 = .ok (.getfield 44, 3) := dk_180 0 44 (dk_at dksX6_yearStep_11 3 rfl rfl)
theorem dX6_yearStep_261 : decode cX6_yearStep 261 = .ok (.aload_n 0, 1) := dk_42 (dk_at dksX6_yearStep_11 6 rfl rfl)
theorem dX6_yearStep_262 : decode cX6_yearStep 262 = .ok (.getfield 236, 3) := dk_180 0 236 (dk_at dksX6_yearStep_11 7 rfl rfl)
theorem dX6_yearStep_265 : decode cX6_yearStep 265 = .ok (.iaload, 1) := dk_46 (dk_at dksX6_yearStep_11 10 rfl rfl)
theorem dX6_yearStep_266 : decode cX6_yearStep 266 = .ok (.iastore, 1) := dk_79 (dk_at dksX6_yearStep_11 11 rfl rfl)
theorem dX6_yearStep_267 : decode cX6_yearStep 267 = .ok (.aload_n 0, 1) := dk_42 (dk_at dksX6_yearStep_11 12 rfl rfl)
theorem dX6_yearStep_268 : decode cX6_yearStep 268 = .ok (.getfield 7, 3) := dk_180 0 7 (dk_at dksX6_yearStep_11 13 rfl rfl)
theorem dX6_yearStep_271 : decode cX6_yearStep 271 = .ok (.sipush 2130, 3) := dk_17 8 82 (dk_at dksX6_yearStep_11 16 rfl rfl)
theorem dX6_yearStep_274 : decode cX6_yearStep 274 = .ok (.bipush 6, 2) := dk_16 6 (dk_at dksX6_yearStep_11 19 rfl rfl)
theorem dX6_yearStep_276 : decode cX6_yearStep 276 = .ok (.aload_n 0, 1) := dk_42 (dk_at dksX6_yearStep_11 21 rfl rfl)
theorem dX6_yearStep_277 : decode cX6_yearStep 277 = .ok (.getfield 44, 3) := dk_180 0 44 (dk_at dksX6_yearStep_12 0 rfl rfl)
theorem dX6_yearStep_280 : decode cX6_yearStep 280 = .ok (.aload_n 0, 1) := dk_42 (dk_at dksX6_yearStep_12 3 rfl rfl)
theorem dX6_yearStep_281 : decode cX6_yearStep 281 = .ok (.getfield 236, 3) := dk_180 0 236 (dk_at dksX6_yearStep_12 4 rfl rfl)
theorem dX6_yearStep_284 : decode cX6_yearStep 284 = .ok (.iaload, 1) := dk_46 (dk_at dksX6_yearStep_12 7 rfl rfl)
theorem dX6_yearStep_285 : decode cX6_yearStep 285 = .ok (.imul, 1) := dk_104 (dk_at dksX6_yearStep_12 8 rfl rfl)
theorem dX6_yearStep_286 : decode cX6_yearStep 286 = .ok (.iadd, 1) := dk_96 (dk_at dksX6_yearStep_12 9 rfl rfl)
theorem dX6_yearStep_287 : decode cX6_yearStep 287 = .ok (.iconst 4, 1) := dk_7 (dk_at dksX6_yearStep_12 10 rfl rfl)
theorem dX6_yearStep_288 : decode cX6_yearStep 288 = .ok (.iadd, 1) := dk_96 (dk_at dksX6_yearStep_12 11 rfl rfl)
theorem dX6_yearStep_289 : decode cX6_yearStep 289 = .ok (.iload_n 2, 1) := dk_28 (dk_at dksX6_yearStep_12 12 rfl rfl)
theorem dX6_yearStep_290 : decode cX6_yearStep 290 = .ok (.iastore, 1) := dk_79 (dk_at dksX6_yearStep_12 13 rfl rfl)
theorem dX6_yearStep_291 : decode cX6_yearStep 291 = .ok (.aload_n 0, 1) := dk_42 (dk_at dksX6_yearStep_12 14 rfl rfl)
theorem dX6_yearStep_292 : decode cX6_yearStep 292 = .ok (.bipush 59, 2) := dk_16 59 (dk_at dksX6_yearStep_12 15 rfl rfl)
theorem dX6_yearStep_294 : decode cX6_yearStep 294 = .ok (.invokevirtual 214, 3) := dk_182 0 214 (dk_at dksX6_yearStep_12 17 rfl rfl)
theorem dX6_yearStep_297 : decode cX6_yearStep 297 = .ok (.ireturn, 1) := dk_172 (dk_at dksX6_yearStep_12 20 rfl rfl)
abbrev cX6_yearOrder : ByteArray := prog_16_method_50_code
def yX6_yearOrder : MethodName := ⟨RX6, "yearOrder", "(II)Z"⟩
def dkwX6_yearOrder_8 : List UInt8 := [3, 172, 42, 28, 182, 0, 233, 172, 42, 28, 4, 96, 4, 16, 99, 182, 0, 184, 172, 4, 172]
abbrev dktX6_yearOrder_8 : List UInt8 := dkwX6_yearOrder_8 ++ []
def dkwX6_yearOrder_7 : List UInt8 := [182, 0, 191, 153, 0, 21, 42, 28, 6, 96, 4, 17, 3, 231, 182, 0, 184, 153, 0, 7, 4, 167, 0, 4]
abbrev dktX6_yearOrder_7 : List UInt8 := dkwX6_yearOrder_7 ++ dktX6_yearOrder_8
def dkwX6_yearOrder_6 : List UInt8 := [18, 168, 16, 23, 182, 0, 229, 153, 0, 41, 42, 3, 42, 180, 0, 7, 3, 46, 28, 4, 96, 28, 5, 96]
abbrev dktX6_yearOrder_6 : List UInt8 := dkwX6_yearOrder_6 ++ dktX6_yearOrder_7
def dkwX6_yearOrder_5 : List UInt8 := [182, 0, 191, 153, 0, 7, 4, 167, 0, 4, 3, 172, 42, 28, 4, 96, 182, 0, 226, 153, 0, 52, 42]
abbrev dktX6_yearOrder_5 : List UInt8 := dkwX6_yearOrder_5 ++ dktX6_yearOrder_6
def dkwX6_yearOrder_4 : List UInt8 := [18, 168, 16, 22, 182, 0, 229, 153, 0, 27, 42, 3, 42, 180, 0, 7, 3, 46, 28, 4, 96, 28, 5, 96]
abbrev dktX6_yearOrder_4 : List UInt8 := dkwX6_yearOrder_4 ++ dktX6_yearOrder_5
def dkwX6_yearOrder_3 : List UInt8 := [182, 0, 226, 153, 0, 7, 4, 167, 0, 4, 3, 172, 42, 28, 4, 96, 182, 0, 226, 153, 0, 38, 42]
abbrev dktX6_yearOrder_3 : List UInt8 := dkwX6_yearOrder_3 ++ dktX6_yearOrder_4
def dkwX6_yearOrder_2 : List UInt8 := [42, 180, 0, 7, 28, 4, 96, 2, 79, 42, 16, 11, 182, 0, 181, 153, 0, 13, 42, 28, 4, 96]
abbrev dktX6_yearOrder_2 : List UInt8 := dkwX6_yearOrder_2 ++ dktX6_yearOrder_3
def dkwX6_yearOrder_1 : List UInt8 := [170, 0, 0, 0, 0, 0, 210, 0, 0, 0, 17, 0, 0, 0, 25, 0, 0, 0, 51, 0, 0, 0, 85, 0, 0, 0, 132, 0, 0, 0, 132, 0, 0, 0, 210, 0, 0, 0, 210, 0, 0, 0, 210, 0, 0, 0, 193, 0, 0, 0, 199]
abbrev dktX6_yearOrder_1 : List UInt8 := dkwX6_yearOrder_1 ++ dktX6_yearOrder_2
def dkwX6_yearOrder_0 : List UInt8 := [27]
abbrev dktX6_yearOrder_0 : List UInt8 := dkwX6_yearOrder_0 ++ dktX6_yearOrder_1
theorem dksX6_yearOrder_0 : cX6_yearOrder.data.toList.drop 0 = dktX6_yearOrder_0 := by decide +kernel
theorem dksX6_yearOrder_1 : cX6_yearOrder.data.toList.drop 1 = dktX6_yearOrder_1 := dk_seg dksX6_yearOrder_0 1 rfl rfl
theorem dksX6_yearOrder_2 : cX6_yearOrder.data.toList.drop 52 = dktX6_yearOrder_2 := dk_seg dksX6_yearOrder_1 51 rfl rfl
theorem dksX6_yearOrder_3 : cX6_yearOrder.data.toList.drop 74 = dktX6_yearOrder_3 := dk_seg dksX6_yearOrder_2 22 rfl rfl
theorem dksX6_yearOrder_4 : cX6_yearOrder.data.toList.drop 97 = dktX6_yearOrder_4 := dk_seg dksX6_yearOrder_3 23 rfl rfl
theorem dksX6_yearOrder_5 : cX6_yearOrder.data.toList.drop 121 = dktX6_yearOrder_5 := dk_seg dksX6_yearOrder_4 24 rfl rfl
theorem dksX6_yearOrder_6 : cX6_yearOrder.data.toList.drop 144 = dktX6_yearOrder_6 := dk_seg dksX6_yearOrder_5 23 rfl rfl
theorem dksX6_yearOrder_7 : cX6_yearOrder.data.toList.drop 168 = dktX6_yearOrder_7 := dk_seg dksX6_yearOrder_6 24 rfl rfl
theorem dksX6_yearOrder_8 : cX6_yearOrder.data.toList.drop 192 = dktX6_yearOrder_8 := dk_seg dksX6_yearOrder_7 24 rfl rfl
theorem dX6_yearOrder_0 : decode cX6_yearOrder 0 = .ok (.iload_n 1, 1) := dk_27 (dk_at dksX6_yearOrder_0 0 rfl rfl)
theorem dX6_yearOrder_1 : decode cX6_yearOrder 1 = .ok (.tableswitch 210 17 25 #[51, 85, 132, 132, 210, 210, 210, 193, 199], 51) := by decide +kernel
theorem dX6_yearOrder_52 : decode cX6_yearOrder 52 = .ok (.aload_n 0, 1) := dk_42 (dk_at dksX6_yearOrder_2 0 rfl rfl)
theorem dX6_yearOrder_53 : decode cX6_yearOrder 53 = .ok (.getfield 7, 3) := dk_180 0 7 (dk_at dksX6_yearOrder_2 1 rfl rfl)
theorem dX6_yearOrder_56 : decode cX6_yearOrder 56 = .ok (.iload_n 2, 1) := dk_28 (dk_at dksX6_yearOrder_2 4 rfl rfl)
theorem dX6_yearOrder_57 : decode cX6_yearOrder 57 = .ok (.iconst 1, 1) := dk_4 (dk_at dksX6_yearOrder_2 5 rfl rfl)
theorem dX6_yearOrder_58 : decode cX6_yearOrder 58 = .ok (.iadd, 1) := dk_96 (dk_at dksX6_yearOrder_2 6 rfl rfl)
theorem dX6_yearOrder_59 : decode cX6_yearOrder 59 = .ok (.iconst (-1), 1) := dk_2 (dk_at dksX6_yearOrder_2 7 rfl rfl)
theorem dX6_yearOrder_60 : decode cX6_yearOrder 60 = .ok (.iastore, 1) := dk_79 (dk_at dksX6_yearOrder_2 8 rfl rfl)
theorem dX6_yearOrder_61 : decode cX6_yearOrder 61 = .ok (.aload_n 0, 1) := dk_42 (dk_at dksX6_yearOrder_2 9 rfl rfl)
theorem dX6_yearOrder_62 : decode cX6_yearOrder 62 = .ok (.bipush 11, 2) := dk_16 11 (dk_at dksX6_yearOrder_2 10 rfl rfl)
theorem dX6_yearOrder_64 : decode cX6_yearOrder 64 = .ok (.invokevirtual 181, 3) := dk_182 0 181 (dk_at dksX6_yearOrder_2 12 rfl rfl)
theorem dX6_yearOrder_67 : decode cX6_yearOrder 67 = .ok (.ifCond .eq 13, 3) := dk_153 0 13 (dk_at dksX6_yearOrder_2 15 rfl rfl)
theorem dX6_yearOrder_70 : decode cX6_yearOrder 70 = .ok (.aload_n 0, 1) := dk_42 (dk_at dksX6_yearOrder_2 18 rfl rfl)
theorem dX6_yearOrder_71 : decode cX6_yearOrder 71 = .ok (.iload_n 2, 1) := dk_28 (dk_at dksX6_yearOrder_2 19 rfl rfl)
theorem dX6_yearOrder_72 : decode cX6_yearOrder 72 = .ok (.iconst 1, 1) := dk_4 (dk_at dksX6_yearOrder_2 20 rfl rfl)
theorem dX6_yearOrder_73 : decode cX6_yearOrder 73 = .ok (.iadd, 1) := dk_96 (dk_at dksX6_yearOrder_2 21 rfl rfl)
theorem dX6_yearOrder_74 : decode cX6_yearOrder 74 = .ok (.invokevirtual 226, 3) := dk_182 0 226 (dk_at dksX6_yearOrder_3 0 rfl rfl)
theorem dX6_yearOrder_77 : decode cX6_yearOrder 77 = .ok (.ifCond .eq 7, 3) := dk_153 0 7 (dk_at dksX6_yearOrder_3 3 rfl rfl)
theorem dX6_yearOrder_80 : decode cX6_yearOrder 80 = .ok (.iconst 1, 1) := dk_4 (dk_at dksX6_yearOrder_3 6 rfl rfl)
theorem dX6_yearOrder_81 : decode cX6_yearOrder 81 = .ok (.goto 4, 3) := dk_167 0 4 (dk_at dksX6_yearOrder_3 7 rfl rfl)
theorem dX6_yearOrder_84 : decode cX6_yearOrder 84 = .ok (.iconst 0, 1) := dk_3 (dk_at dksX6_yearOrder_3 10 rfl rfl)
theorem dX6_yearOrder_85 : decode cX6_yearOrder 85 = .ok (.ireturn, 1) := dk_172 (dk_at dksX6_yearOrder_3 11 rfl rfl)
theorem dX6_yearOrder_86 : decode cX6_yearOrder 86 = .ok (.aload_n 0, 1) := dk_42 (dk_at dksX6_yearOrder_3 12 rfl rfl)
theorem dX6_yearOrder_87 : decode cX6_yearOrder 87 = .ok (.iload_n 2, 1) := dk_28 (dk_at dksX6_yearOrder_3 13 rfl rfl)
theorem dX6_yearOrder_88 : decode cX6_yearOrder 88 = .ok (.iconst 1, 1) := dk_4 (dk_at dksX6_yearOrder_3 14 rfl rfl)
theorem dX6_yearOrder_89 : decode cX6_yearOrder 89 = .ok (.iadd, 1) := dk_96 (dk_at dksX6_yearOrder_3 15 rfl rfl)
theorem dX6_yearOrder_90 : decode cX6_yearOrder 90 = .ok (.invokevirtual 226, 3) := dk_182 0 226 (dk_at dksX6_yearOrder_3 16 rfl rfl)
theorem dX6_yearOrder_93 : decode cX6_yearOrder 93 = .ok (.ifCond .eq 38, 3) := dk_153 0 38 (dk_at dksX6_yearOrder_3 19 rfl rfl)
theorem dX6_yearOrder_96 : decode cX6_yearOrder 96 = .ok (.aload_n 0, 1) := dk_42 (dk_at dksX6_yearOrder_3 22 rfl rfl)
theorem dX6_yearOrder_97 : decode cX6_yearOrder 97 = .ok (.ldc 168, 2) := dk_18 168 (dk_at dksX6_yearOrder_4 0 rfl rfl)
theorem dX6_yearOrder_99 : decode cX6_yearOrder 99 = .ok (.bipush 22, 2) := dk_16 22 (dk_at dksX6_yearOrder_4 2 rfl rfl)
theorem dX6_yearOrder_101 : decode cX6_yearOrder 101 = .ok (.invokevirtual 229, 3) := dk_182 0 229 (dk_at dksX6_yearOrder_4 4 rfl rfl)
theorem dX6_yearOrder_104 : decode cX6_yearOrder 104 = .ok (.ifCond .eq 27, 3) := dk_153 0 27 (dk_at dksX6_yearOrder_4 7 rfl rfl)
theorem dX6_yearOrder_107 : decode cX6_yearOrder 107 = .ok (.aload_n 0, 1) := dk_42 (dk_at dksX6_yearOrder_4 10 rfl rfl)
theorem dX6_yearOrder_108 : decode cX6_yearOrder 108 = .ok (.iconst 0, 1) := dk_3 (dk_at dksX6_yearOrder_4 11 rfl rfl)
theorem dX6_yearOrder_109 : decode cX6_yearOrder 109 = .ok (.aload_n 0, 1) := dk_42 (dk_at dksX6_yearOrder_4 12 rfl rfl)
theorem dX6_yearOrder_110 : decode cX6_yearOrder 110 = .ok (.getfield 7, 3) := dk_180 0 7 (dk_at dksX6_yearOrder_4 13 rfl rfl)
theorem dX6_yearOrder_113 : decode cX6_yearOrder 113 = .ok (.iconst 0, 1) := dk_3 (dk_at dksX6_yearOrder_4 16 rfl rfl)
theorem dX6_yearOrder_114 : decode cX6_yearOrder 114 = .ok (.iaload, 1) := dk_46 (dk_at dksX6_yearOrder_4 17 rfl rfl)
theorem dX6_yearOrder_115 : decode cX6_yearOrder 115 = .ok (.iload_n 2, 1) := dk_28 (dk_at dksX6_yearOrder_4 18 rfl rfl)
theorem dX6_yearOrder_116 : decode cX6_yearOrder 116 = .ok (.iconst 1, 1) := dk_4 (dk_at dksX6_yearOrder_4 19 rfl rfl)
theorem dX6_yearOrder_117 : decode cX6_yearOrder 117 = .ok (.iadd, 1) := dk_96 (dk_at dksX6_yearOrder_4 20 rfl rfl)
theorem dX6_yearOrder_118 : decode cX6_yearOrder 118 = .ok (.iload_n 2, 1) := dk_28 (dk_at dksX6_yearOrder_4 21 rfl rfl)
theorem dX6_yearOrder_119 : decode cX6_yearOrder 119 = .ok (.iconst 2, 1) := dk_5 (dk_at dksX6_yearOrder_4 22 rfl rfl)
theorem dX6_yearOrder_120 : decode cX6_yearOrder 120 = .ok (.iadd, 1) := dk_96 (dk_at dksX6_yearOrder_4 23 rfl rfl)
theorem dX6_yearOrder_121 : decode cX6_yearOrder 121 = .ok (.invokevirtual 191, 3) := dk_182 0 191 (dk_at dksX6_yearOrder_5 0 rfl rfl)
theorem dX6_yearOrder_124 : decode cX6_yearOrder 124 = .ok (.ifCond .eq 7, 3) := dk_153 0 7 (dk_at dksX6_yearOrder_5 3 rfl rfl)
theorem dX6_yearOrder_127 : decode cX6_yearOrder 127 = .ok (.iconst 1, 1) := dk_4 (dk_at dksX6_yearOrder_5 6 rfl rfl)
theorem dX6_yearOrder_128 : decode cX6_yearOrder 128 = .ok (.goto 4, 3) := dk_167 0 4 (dk_at dksX6_yearOrder_5 7 rfl rfl)
theorem dX6_yearOrder_131 : decode cX6_yearOrder 131 = .ok (.iconst 0, 1) := dk_3 (dk_at dksX6_yearOrder_5 10 rfl rfl)
theorem dX6_yearOrder_132 : decode cX6_yearOrder 132 = .ok (.ireturn, 1) := dk_172 (dk_at dksX6_yearOrder_5 11 rfl rfl)
theorem dX6_yearOrder_133 : decode cX6_yearOrder 133 = .ok (.aload_n 0, 1) := dk_42 (dk_at dksX6_yearOrder_5 12 rfl rfl)
theorem dX6_yearOrder_134 : decode cX6_yearOrder 134 = .ok (.iload_n 2, 1) := dk_28 (dk_at dksX6_yearOrder_5 13 rfl rfl)
theorem dX6_yearOrder_135 : decode cX6_yearOrder 135 = .ok (.iconst 1, 1) := dk_4 (dk_at dksX6_yearOrder_5 14 rfl rfl)
theorem dX6_yearOrder_136 : decode cX6_yearOrder 136 = .ok (.iadd, 1) := dk_96 (dk_at dksX6_yearOrder_5 15 rfl rfl)
theorem dX6_yearOrder_137 : decode cX6_yearOrder 137 = .ok (.invokevirtual 226, 3) := dk_182 0 226 (dk_at dksX6_yearOrder_5 16 rfl rfl)
theorem dX6_yearOrder_140 : decode cX6_yearOrder 140 = .ok (.ifCond .eq 52, 3) := dk_153 0 52 (dk_at dksX6_yearOrder_5 19 rfl rfl)
theorem dX6_yearOrder_143 : decode cX6_yearOrder 143 = .ok (.aload_n 0, 1) := dk_42 (dk_at dksX6_yearOrder_5 22 rfl rfl)
theorem dX6_yearOrder_144 : decode cX6_yearOrder 144 = .ok (.ldc 168, 2) := dk_18 168 (dk_at dksX6_yearOrder_6 0 rfl rfl)
theorem dX6_yearOrder_146 : decode cX6_yearOrder 146 = .ok (.bipush 23, 2) := dk_16 23 (dk_at dksX6_yearOrder_6 2 rfl rfl)
theorem dX6_yearOrder_148 : decode cX6_yearOrder 148 = .ok (.invokevirtual 229, 3) := dk_182 0 229 (dk_at dksX6_yearOrder_6 4 rfl rfl)
theorem dX6_yearOrder_151 : decode cX6_yearOrder 151 = .ok (.ifCond .eq 41, 3) := dk_153 0 41 (dk_at dksX6_yearOrder_6 7 rfl rfl)
theorem dX6_yearOrder_154 : decode cX6_yearOrder 154 = .ok (.aload_n 0, 1) := dk_42 (dk_at dksX6_yearOrder_6 10 rfl rfl)
theorem dX6_yearOrder_155 : decode cX6_yearOrder 155 = .ok (.iconst 0, 1) := dk_3 (dk_at dksX6_yearOrder_6 11 rfl rfl)
theorem dX6_yearOrder_156 : decode cX6_yearOrder 156 = .ok (.aload_n 0, 1) := dk_42 (dk_at dksX6_yearOrder_6 12 rfl rfl)
theorem dX6_yearOrder_157 : decode cX6_yearOrder 157 = .ok (.getfield 7, 3) := dk_180 0 7 (dk_at dksX6_yearOrder_6 13 rfl rfl)
theorem dX6_yearOrder_160 : decode cX6_yearOrder 160 = .ok (.iconst 0, 1) := dk_3 (dk_at dksX6_yearOrder_6 16 rfl rfl)
theorem dX6_yearOrder_161 : decode cX6_yearOrder 161 = .ok (.iaload, 1) := dk_46 (dk_at dksX6_yearOrder_6 17 rfl rfl)
theorem dX6_yearOrder_162 : decode cX6_yearOrder 162 = .ok (.iload_n 2, 1) := dk_28 (dk_at dksX6_yearOrder_6 18 rfl rfl)
theorem dX6_yearOrder_163 : decode cX6_yearOrder 163 = .ok (.iconst 1, 1) := dk_4 (dk_at dksX6_yearOrder_6 19 rfl rfl)
theorem dX6_yearOrder_164 : decode cX6_yearOrder 164 = .ok (.iadd, 1) := dk_96 (dk_at dksX6_yearOrder_6 20 rfl rfl)
theorem dX6_yearOrder_165 : decode cX6_yearOrder 165 = .ok (.iload_n 2, 1) := dk_28 (dk_at dksX6_yearOrder_6 21 rfl rfl)
theorem dX6_yearOrder_166 : decode cX6_yearOrder 166 = .ok (.iconst 2, 1) := dk_5 (dk_at dksX6_yearOrder_6 22 rfl rfl)
theorem dX6_yearOrder_167 : decode cX6_yearOrder 167 = .ok (.iadd, 1) := dk_96 (dk_at dksX6_yearOrder_6 23 rfl rfl)
theorem dX6_yearOrder_168 : decode cX6_yearOrder 168 = .ok (.invokevirtual 191, 3) := dk_182 0 191 (dk_at dksX6_yearOrder_7 0 rfl rfl)
theorem dX6_yearOrder_171 : decode cX6_yearOrder 171 = .ok (.ifCond .eq 21, 3) := dk_153 0 21 (dk_at dksX6_yearOrder_7 3 rfl rfl)
theorem dX6_yearOrder_174 : decode cX6_yearOrder 174 = .ok (.aload_n 0, 1) := dk_42 (dk_at dksX6_yearOrder_7 6 rfl rfl)
theorem dX6_yearOrder_175 : decode cX6_yearOrder 175 = .ok (.iload_n 2, 1) := dk_28 (dk_at dksX6_yearOrder_7 7 rfl rfl)
theorem dX6_yearOrder_176 : decode cX6_yearOrder 176 = .ok (.iconst 3, 1) := dk_6 (dk_at dksX6_yearOrder_7 8 rfl rfl)
theorem dX6_yearOrder_177 : decode cX6_yearOrder 177 = .ok (.iadd, 1) := dk_96 (dk_at dksX6_yearOrder_7 9 rfl rfl)
theorem dX6_yearOrder_178 : decode cX6_yearOrder 178 = .ok (.iconst 1, 1) := dk_4 (dk_at dksX6_yearOrder_7 10 rfl rfl)
theorem dX6_yearOrder_179 : decode cX6_yearOrder 179 = .ok (.sipush 999, 3) := dk_17 3 231 (dk_at dksX6_yearOrder_7 11 rfl rfl)
theorem dX6_yearOrder_182 : decode cX6_yearOrder 182 = .ok (.invokevirtual 184, 3) := dk_182 0 184 (dk_at dksX6_yearOrder_7 14 rfl rfl)
theorem dX6_yearOrder_185 : decode cX6_yearOrder 185 = .ok (.ifCond .eq 7, 3) := dk_153 0 7 (dk_at dksX6_yearOrder_7 17 rfl rfl)
theorem dX6_yearOrder_188 : decode cX6_yearOrder 188 = .ok (.iconst 1, 1) := dk_4 (dk_at dksX6_yearOrder_7 20 rfl rfl)
theorem dX6_yearOrder_189 : decode cX6_yearOrder 189 = .ok (.goto 4, 3) := dk_167 0 4 (dk_at dksX6_yearOrder_7 21 rfl rfl)
theorem dX6_yearOrder_192 : decode cX6_yearOrder 192 = .ok (.iconst 0, 1) := dk_3 (dk_at dksX6_yearOrder_8 0 rfl rfl)
theorem dX6_yearOrder_193 : decode cX6_yearOrder 193 = .ok (.ireturn, 1) := dk_172 (dk_at dksX6_yearOrder_8 1 rfl rfl)
theorem dX6_yearOrder_194 : decode cX6_yearOrder 194 = .ok (.aload_n 0, 1) := dk_42 (dk_at dksX6_yearOrder_8 2 rfl rfl)
theorem dX6_yearOrder_195 : decode cX6_yearOrder 195 = .ok (.iload_n 2, 1) := dk_28 (dk_at dksX6_yearOrder_8 3 rfl rfl)
theorem dX6_yearOrder_196 : decode cX6_yearOrder 196 = .ok (.invokevirtual 233, 3) := dk_182 0 233 (dk_at dksX6_yearOrder_8 4 rfl rfl)
theorem dX6_yearOrder_199 : decode cX6_yearOrder 199 = .ok (.ireturn, 1) := dk_172 (dk_at dksX6_yearOrder_8 7 rfl rfl)
theorem dX6_yearOrder_200 : decode cX6_yearOrder 200 = .ok (.aload_n 0, 1) := dk_42 (dk_at dksX6_yearOrder_8 8 rfl rfl)
theorem dX6_yearOrder_201 : decode cX6_yearOrder 201 = .ok (.iload_n 2, 1) := dk_28 (dk_at dksX6_yearOrder_8 9 rfl rfl)
theorem dX6_yearOrder_202 : decode cX6_yearOrder 202 = .ok (.iconst 1, 1) := dk_4 (dk_at dksX6_yearOrder_8 10 rfl rfl)
theorem dX6_yearOrder_203 : decode cX6_yearOrder 203 = .ok (.iadd, 1) := dk_96 (dk_at dksX6_yearOrder_8 11 rfl rfl)
theorem dX6_yearOrder_204 : decode cX6_yearOrder 204 = .ok (.iconst 1, 1) := dk_4 (dk_at dksX6_yearOrder_8 12 rfl rfl)
theorem dX6_yearOrder_205 : decode cX6_yearOrder 205 = .ok (.bipush 99, 2) := dk_16 99 (dk_at dksX6_yearOrder_8 13 rfl rfl)
theorem dX6_yearOrder_207 : decode cX6_yearOrder 207 = .ok (.invokevirtual 184, 3) := dk_182 0 184 (dk_at dksX6_yearOrder_8 15 rfl rfl)
theorem dX6_yearOrder_210 : decode cX6_yearOrder 210 = .ok (.ireturn, 1) := dk_172 (dk_at dksX6_yearOrder_8 18 rfl rfl)
theorem dX6_yearOrder_211 : decode cX6_yearOrder 211 = .ok (.iconst 1, 1) := dk_4 (dk_at dksX6_yearOrder_8 19 rfl rfl)
theorem dX6_yearOrder_212 : decode cX6_yearOrder 212 = .ok (.ireturn, 1) := dk_172 (dk_at dksX6_yearOrder_8 20 rfl rfl)
abbrev cX6_personTo : ByteArray := prog_16_method_48_code
def yX6_personTo : MethodName := ⟨RX6, "personTo", "(I)Z"⟩
def dkwX6_personTo_0 : List UInt8 := [42, 3, 42, 180, 0, 7, 3, 46, 27, 182, 0, 177, 172]
abbrev dktX6_personTo_0 : List UInt8 := dkwX6_personTo_0 ++ []
theorem dksX6_personTo_0 : cX6_personTo.data.toList.drop 0 = dktX6_personTo_0 := by decide +kernel
theorem dX6_personTo_0 : decode cX6_personTo 0 = .ok (.aload_n 0, 1) := dk_42 (dk_at dksX6_personTo_0 0 rfl rfl)
theorem dX6_personTo_1 : decode cX6_personTo 1 = .ok (.iconst 0, 1) := dk_3 (dk_at dksX6_personTo_0 1 rfl rfl)
theorem dX6_personTo_2 : decode cX6_personTo 2 = .ok (.aload_n 0, 1) := dk_42 (dk_at dksX6_personTo_0 2 rfl rfl)
theorem dX6_personTo_3 : decode cX6_personTo 3 = .ok (.getfield 7, 3) := dk_180 0 7 (dk_at dksX6_personTo_0 3 rfl rfl)
theorem dX6_personTo_6 : decode cX6_personTo 6 = .ok (.iconst 0, 1) := dk_3 (dk_at dksX6_personTo_0 6 rfl rfl)
theorem dX6_personTo_7 : decode cX6_personTo 7 = .ok (.iaload, 1) := dk_46 (dk_at dksX6_personTo_0 7 rfl rfl)
theorem dX6_personTo_8 : decode cX6_personTo 8 = .ok (.iload_n 1, 1) := dk_27 (dk_at dksX6_personTo_0 8 rfl rfl)
theorem dX6_personTo_9 : decode cX6_personTo 9 = .ok (.invokevirtual 177, 3) := dk_182 0 177 (dk_at dksX6_personTo_0 9 rfl rfl)
theorem dX6_personTo_12 : decode cX6_personTo 12 = .ok (.ireturn, 1) := dk_172 (dk_at dksX6_personTo_0 12 rfl rfl)
abbrev cX6_wantWord : ByteArray := prog_16_method_30_code
def yX6_wantWord : MethodName := ⟨RX6, "wantWord", "(Ljava/lang/String;I)Z"⟩
def dkwX6_wantWord_0 : List UInt8 := [42, 43, 182, 0, 160, 28, 159, 0, 9, 42, 5, 182, 0, 157, 172, 42, 182, 0, 151, 4, 172]
abbrev dktX6_wantWord_0 : List UInt8 := dkwX6_wantWord_0 ++ []
theorem dksX6_wantWord_0 : cX6_wantWord.data.toList.drop 0 = dktX6_wantWord_0 := by decide +kernel
theorem dX6_wantWord_0 : decode cX6_wantWord 0 = .ok (.aload_n 0, 1) := dk_42 (dk_at dksX6_wantWord_0 0 rfl rfl)
theorem dX6_wantWord_1 : decode cX6_wantWord 1 = .ok (.aload_n 1, 1) := dk_43 (dk_at dksX6_wantWord_0 1 rfl rfl)
theorem dX6_wantWord_2 : decode cX6_wantWord 2 = .ok (.invokevirtual 160, 3) := dk_182 0 160 (dk_at dksX6_wantWord_0 2 rfl rfl)
theorem dX6_wantWord_5 : decode cX6_wantWord 5 = .ok (.iload_n 2, 1) := dk_28 (dk_at dksX6_wantWord_0 5 rfl rfl)
theorem dX6_wantWord_6 : decode cX6_wantWord 6 = .ok (.if_icmp .eq 9, 3) := dk_159 0 9 (dk_at dksX6_wantWord_0 6 rfl rfl)
theorem dX6_wantWord_9 : decode cX6_wantWord 9 = .ok (.aload_n 0, 1) := dk_42 (dk_at dksX6_wantWord_0 9 rfl rfl)
theorem dX6_wantWord_10 : decode cX6_wantWord 10 = .ok (.iconst 2, 1) := dk_5 (dk_at dksX6_wantWord_0 10 rfl rfl)
theorem dX6_wantWord_11 : decode cX6_wantWord 11 = .ok (.invokevirtual 157, 3) := dk_182 0 157 (dk_at dksX6_wantWord_0 11 rfl rfl)
theorem dX6_wantWord_14 : decode cX6_wantWord 14 = .ok (.ireturn, 1) := dk_172 (dk_at dksX6_wantWord_0 14 rfl rfl)
theorem dX6_wantWord_15 : decode cX6_wantWord 15 = .ok (.aload_n 0, 1) := dk_42 (dk_at dksX6_wantWord_0 15 rfl rfl)
theorem dX6_wantWord_16 : decode cX6_wantWord 16 = .ok (.invokevirtual 151, 3) := dk_182 0 151 (dk_at dksX6_wantWord_0 16 rfl rfl)
theorem dX6_wantWord_19 : decode cX6_wantWord 19 = .ok (.iconst 1, 1) := dk_4 (dk_at dksX6_wantWord_0 19 rfl rfl)
theorem dX6_wantWord_20 : decode cX6_wantWord 20 = .ok (.ireturn, 1) := dk_172 (dk_at dksX6_wantWord_0 20 rfl rfl)
abbrev cX6_test : ByteArray := prog_16_method_49_code
def yX6_test : MethodName := ⟨RX6, "test", "(I)Z"⟩
def dkwX6_test_6 : List UInt8 := [3, 28, 16, 28, 160, 0, 9, 17, 3, 231, 167, 0, 6, 17, 39, 15, 182, 0, 184, 172]
abbrev dktX6_test_6 : List UInt8 := dkwX6_test_6 ++ []
def dkwX6_test_5 : List UInt8 := [182, 0, 157, 172, 42, 180, 0, 7, 27, 8, 96, 42, 180, 0, 117, 79, 42, 182, 0, 151, 42, 27, 6, 96]
abbrev dktX6_test_5 : List UInt8 := dkwX6_test_5 ++ dktX6_test_6
def dkwX6_test_4 : List UInt8 := [154, 0, 27, 42, 16, 62, 182, 0, 154, 154, 0, 18, 42, 16, 61, 182, 0, 154, 154, 0, 9, 42, 5]
abbrev dktX6_test_4 : List UInt8 := dkwX6_test_4 ++ dktX6_test_5
def dkwX6_test_3 : List UInt8 := [5, 96, 182, 0, 191, 154, 0, 5, 3, 172, 28, 16, 15, 160, 0, 5, 4, 172, 42, 16, 60, 182, 0, 154]
abbrev dktX6_test_3 : List UInt8 := dkwX6_test_3 ++ dktX6_test_4
def dkwX6_test_2 : List UInt8 := [96, 182, 0, 226, 153, 0, 28, 28, 6, 160, 0, 25, 42, 3, 42, 180, 0, 7, 3, 46, 27, 4, 96, 27]
abbrev dktX6_test_2 : List UInt8 := dkwX6_test_2 ++ dktX6_test_3
def dkwX6_test_1 : List UInt8 := [42, 5, 182, 0, 157, 172, 42, 180, 0, 7, 27, 17, 9, 96, 28, 96, 79, 42, 182, 0, 151, 42, 27, 4]
abbrev dktX6_test_1 : List UInt8 := dkwX6_test_1 ++ dktX6_test_2
def dkwX6_test_0 : List UInt8 := [42, 18, 168, 182, 0, 160, 61, 28, 16, 28, 159, 0, 20, 28, 6, 159, 0, 15, 28, 16, 15, 159, 0, 9]
abbrev dktX6_test_0 : List UInt8 := dkwX6_test_0 ++ dktX6_test_1
theorem dksX6_test_0 : cX6_test.data.toList.drop 0 = dktX6_test_0 := by decide +kernel
theorem dksX6_test_1 : cX6_test.data.toList.drop 24 = dktX6_test_1 := dk_seg dksX6_test_0 24 rfl rfl
theorem dksX6_test_2 : cX6_test.data.toList.drop 48 = dktX6_test_2 := dk_seg dksX6_test_1 24 rfl rfl
theorem dksX6_test_3 : cX6_test.data.toList.drop 72 = dktX6_test_3 := dk_seg dksX6_test_2 24 rfl rfl
theorem dksX6_test_4 : cX6_test.data.toList.drop 96 = dktX6_test_4 := dk_seg dksX6_test_3 24 rfl rfl
theorem dksX6_test_5 : cX6_test.data.toList.drop 119 = dktX6_test_5 := dk_seg dksX6_test_4 23 rfl rfl
theorem dksX6_test_6 : cX6_test.data.toList.drop 143 = dktX6_test_6 := dk_seg dksX6_test_5 24 rfl rfl
theorem dX6_test_0 : decode cX6_test 0 = .ok (.aload_n 0, 1) := dk_42 (dk_at dksX6_test_0 0 rfl rfl)
theorem dX6_test_1 : decode cX6_test 1 = .ok (.ldc 168, 2) := dk_18 168 (dk_at dksX6_test_0 1 rfl rfl)
theorem dX6_test_3 : decode cX6_test 3 = .ok (.invokevirtual 160, 3) := dk_182 0 160 (dk_at dksX6_test_0 3 rfl rfl)
theorem dX6_test_6 : decode cX6_test 6 = .ok (.istore_n 2, 1) := dk_61 (dk_at dksX6_test_0 6 rfl rfl)
theorem dX6_test_7 : decode cX6_test 7 = .ok (.iload_n 2, 1) := dk_28 (dk_at dksX6_test_0 7 rfl rfl)
theorem dX6_test_8 : decode cX6_test 8 = .ok (.bipush 28, 2) := dk_16 28 (dk_at dksX6_test_0 8 rfl rfl)
theorem dX6_test_10 : decode cX6_test 10 = .ok (.if_icmp .eq 20, 3) := dk_159 0 20 (dk_at dksX6_test_0 10 rfl rfl)
theorem dX6_test_13 : decode cX6_test 13 = .ok (.iload_n 2, 1) := dk_28 (dk_at dksX6_test_0 13 rfl rfl)
theorem dX6_test_14 : decode cX6_test 14 = .ok (.iconst 3, 1) := dk_6 (dk_at dksX6_test_0 14 rfl rfl)
theorem dX6_test_15 : decode cX6_test 15 = .ok (.if_icmp .eq 15, 3) := dk_159 0 15 (dk_at dksX6_test_0 15 rfl rfl)
theorem dX6_test_18 : decode cX6_test 18 = .ok (.iload_n 2, 1) := dk_28 (dk_at dksX6_test_0 18 rfl rfl)
theorem dX6_test_19 : decode cX6_test 19 = .ok (.bipush 15, 2) := dk_16 15 (dk_at dksX6_test_0 19 rfl rfl)
theorem dX6_test_21 : decode cX6_test 21 = .ok (.if_icmp .eq 9, 3) := dk_159 0 9 (dk_at dksX6_test_0 21 rfl rfl)
theorem dX6_test_24 : decode cX6_test 24 = .ok (.aload_n 0, 1) := dk_42 (dk_at dksX6_test_1 0 rfl rfl)
theorem dX6_test_25 : decode cX6_test 25 = .ok (.iconst 2, 1) := dk_5 (dk_at dksX6_test_1 1 rfl rfl)
theorem dX6_test_26 : decode cX6_test 26 = .ok (.invokevirtual 157, 3) := dk_182 0 157 (dk_at dksX6_test_1 2 rfl rfl)
theorem dX6_test_29 : decode cX6_test 29 = .ok (.ireturn, 1) := dk_172 (dk_at dksX6_test_1 5 rfl rfl)
theorem dX6_test_30 : decode cX6_test 30 = .ok (.aload_n 0, 1) := dk_42 (dk_at dksX6_test_1 6 rfl rfl)
theorem dX6_test_31 : decode cX6_test 31 = .ok (.getfield 7, 3) := dk_180 0 7 (dk_at dksX6_test_1 7 rfl rfl)
theorem dX6_test_34 : decode cX6_test 34 = .ok (.iload_n 1, 1) := dk_27 (dk_at dksX6_test_1 10 rfl rfl)
theorem dX6_test_35 : decode cX6_test 35 = .ok (.sipush 2400, 3) := dk_17 9 96 (dk_at dksX6_test_1 11 rfl rfl)
theorem dX6_test_38 : decode cX6_test 38 = .ok (.iload_n 2, 1) := dk_28 (dk_at dksX6_test_1 14 rfl rfl)
theorem dX6_test_39 : decode cX6_test 39 = .ok (.iadd, 1) := dk_96 (dk_at dksX6_test_1 15 rfl rfl)
theorem dX6_test_40 : decode cX6_test 40 = .ok (.iastore, 1) := dk_79 (dk_at dksX6_test_1 16 rfl rfl)
theorem dX6_test_41 : decode cX6_test 41 = .ok (.aload_n 0, 1) := dk_42 (dk_at dksX6_test_1 17 rfl rfl)
theorem dX6_test_42 : decode cX6_test 42 = .ok (.invokevirtual 151, 3) := dk_182 0 151 (dk_at dksX6_test_1 18 rfl rfl)
theorem dX6_test_45 : decode cX6_test 45 = .ok (.aload_n 0, 1) := dk_42 (dk_at dksX6_test_1 21 rfl rfl)
theorem dX6_test_46 : decode cX6_test 46 = .ok (.iload_n 1, 1) := dk_27 (dk_at dksX6_test_1 22 rfl rfl)
theorem dX6_test_47 : decode cX6_test 47 = .ok (.iconst 1, 1) := dk_4 (dk_at dksX6_test_1 23 rfl rfl)
theorem dX6_test_48 : decode cX6_test 48 = .ok (.iadd, 1) := dk_96 (dk_at dksX6_test_2 0 rfl rfl)
theorem dX6_test_49 : decode cX6_test 49 = .ok (.invokevirtual 226, 3) := dk_182 0 226 (dk_at dksX6_test_2 1 rfl rfl)
theorem dX6_test_52 : decode cX6_test 52 = .ok (.ifCond .eq 28, 3) := dk_153 0 28 (dk_at dksX6_test_2 4 rfl rfl)
theorem dX6_test_55 : decode cX6_test 55 = .ok (.iload_n 2, 1) := dk_28 (dk_at dksX6_test_2 7 rfl rfl)
theorem dX6_test_56 : decode cX6_test 56 = .ok (.iconst 3, 1) := dk_6 (dk_at dksX6_test_2 8 rfl rfl)
theorem dX6_test_57 : decode cX6_test 57 = .ok (.if_icmp .ne 25, 3) := dk_160 0 25 (dk_at dksX6_test_2 9 rfl rfl)
theorem dX6_test_60 : decode cX6_test 60 = .ok (.aload_n 0, 1) := dk_42 (dk_at dksX6_test_2 12 rfl rfl)
theorem dX6_test_61 : decode cX6_test 61 = .ok (.iconst 0, 1) := dk_3 (dk_at dksX6_test_2 13 rfl rfl)
theorem dX6_test_62 : decode cX6_test 62 = .ok (.aload_n 0, 1) := dk_42 (dk_at dksX6_test_2 14 rfl rfl)
theorem dX6_test_63 : decode cX6_test 63 = .ok (.getfield 7, 3) := dk_180 0 7 (dk_at dksX6_test_2 15 rfl rfl)
theorem dX6_test_66 : decode cX6_test 66 = .ok (.iconst 0, 1) := dk_3 (dk_at dksX6_test_2 18 rfl rfl)
theorem dX6_test_67 : decode cX6_test 67 = .ok (.iaload, 1) := dk_46 (dk_at dksX6_test_2 19 rfl rfl)
theorem dX6_test_68 : decode cX6_test 68 = .ok (.iload_n 1, 1) := dk_27 (dk_at dksX6_test_2 20 rfl rfl)
theorem dX6_test_69 : decode cX6_test 69 = .ok (.iconst 1, 1) := dk_4 (dk_at dksX6_test_2 21 rfl rfl)
theorem dX6_test_70 : decode cX6_test 70 = .ok (.iadd, 1) := dk_96 (dk_at dksX6_test_2 22 rfl rfl)
theorem dX6_test_71 : decode cX6_test 71 = .ok (.iload_n 1, 1) := dk_27 (dk_at dksX6_test_2 23 rfl rfl)
theorem dX6_test_72 : decode cX6_test 72 = .ok (.iconst 2, 1) := dk_5 (dk_at dksX6_test_3 0 rfl rfl)
theorem dX6_test_73 : decode cX6_test 73 = .ok (.iadd, 1) := dk_96 (dk_at dksX6_test_3 1 rfl rfl)
theorem dX6_test_74 : decode cX6_test 74 = .ok (.invokevirtual 191, 3) := dk_182 0 191 (dk_at dksX6_test_3 2 rfl rfl)
theorem dX6_test_77 : decode cX6_test 77 = .ok (.ifCond .ne 5, 3) := dk_154 0 5 (dk_at dksX6_test_3 5 rfl rfl)
theorem dX6_test_80 : decode cX6_test 80 = .ok (.iconst 0, 1) := dk_3 (dk_at dksX6_test_3 8 rfl rfl)
theorem dX6_test_81 : decode cX6_test 81 = .ok (.ireturn, 1) := dk_172 (dk_at dksX6_test_3 9 rfl rfl)
theorem dX6_test_82 : decode cX6_test 82 = .ok (.iload_n 2, 1) := dk_28 (dk_at dksX6_test_3 10 rfl rfl)
theorem dX6_test_83 : decode cX6_test 83 = .ok (.bipush 15, 2) := dk_16 15 (dk_at dksX6_test_3 11 rfl rfl)
theorem dX6_test_85 : decode cX6_test 85 = .ok (.if_icmp .ne 5, 3) := dk_160 0 5 (dk_at dksX6_test_3 13 rfl rfl)
theorem dX6_test_88 : decode cX6_test 88 = .ok (.iconst 1, 1) := dk_4 (dk_at dksX6_test_3 16 rfl rfl)
theorem dX6_test_89 : decode cX6_test 89 = .ok (.ireturn, 1) := dk_172 (dk_at dksX6_test_3 17 rfl rfl)
theorem dX6_test_90 : decode cX6_test 90 = .ok (.aload_n 0, 1) := dk_42 (dk_at dksX6_test_3 18 rfl rfl)
theorem dX6_test_91 : decode cX6_test 91 = .ok (.bipush 60, 2) := dk_16 60 (dk_at dksX6_test_3 19 rfl rfl)
theorem dX6_test_93 : decode cX6_test 93 = .ok (.invokevirtual 154, 3) := dk_182 0 154 (dk_at dksX6_test_3 21 rfl rfl)
theorem dX6_test_96 : decode cX6_test 96 = .ok (.ifCond .ne 27, 3) := dk_154 0 27 (dk_at dksX6_test_4 0 rfl rfl)
theorem dX6_test_99 : decode cX6_test 99 = .ok (.aload_n 0, 1) := dk_42 (dk_at dksX6_test_4 3 rfl rfl)
theorem dX6_test_100 : decode cX6_test 100 = .ok (.bipush 62, 2) := dk_16 62 (dk_at dksX6_test_4 4 rfl rfl)
theorem dX6_test_102 : decode cX6_test 102 = .ok (.invokevirtual 154, 3) := dk_182 0 154 (dk_at dksX6_test_4 6 rfl rfl)
theorem dX6_test_105 : decode cX6_test 105 = .ok (.ifCond .ne 18, 3) := dk_154 0 18 (dk_at dksX6_test_4 9 rfl rfl)
theorem dX6_test_108 : decode cX6_test 108 = .ok (.aload_n 0, 1) := dk_42 (dk_at dksX6_test_4 12 rfl rfl)
theorem dX6_test_109 : decode cX6_test 109 = .ok (.bipush 61, 2) := dk_16 61 (dk_at dksX6_test_4 13 rfl rfl)
theorem dX6_test_111 : decode cX6_test 111 = .ok (.invokevirtual 154, 3) := dk_182 0 154 (dk_at dksX6_test_4 15 rfl rfl)
theorem dX6_test_114 : decode cX6_test 114 = .ok (.ifCond .ne 9, 3) := dk_154 0 9 (dk_at dksX6_test_4 18 rfl rfl)
theorem dX6_test_117 : decode cX6_test 117 = .ok (.aload_n 0, 1) := dk_42 (dk_at dksX6_test_4 21 rfl rfl)
theorem dX6_test_118 : decode cX6_test 118 = .ok (.iconst 2, 1) := dk_5 (dk_at dksX6_test_4 22 rfl rfl)
theorem dX6_test_119 : decode cX6_test 119 = .ok (.invokevirtual 157, 3) := dk_182 0 157 (dk_at dksX6_test_5 0 rfl rfl)
theorem dX6_test_122 : decode cX6_test 122 = .ok (.ireturn, 1) := dk_172 (dk_at dksX6_test_5 3 rfl rfl)
theorem dX6_test_123 : decode cX6_test 123 = .ok (.aload_n 0, 1) := dk_42 (dk_at dksX6_test_5 4 rfl rfl)
theorem dX6_test_124 : decode cX6_test 124 = .ok (.getfield 7, 3) := dk_180 0 7 (dk_at dksX6_test_5 5 rfl rfl)
theorem dX6_test_127 : decode cX6_test 127 = .ok (.iload_n 1, 1) := dk_27 (dk_at dksX6_test_5 8 rfl rfl)
theorem dX6_test_128 : decode cX6_test 128 = .ok (.iconst 5, 1) := dk_8 (dk_at dksX6_test_5 9 rfl rfl)
theorem dX6_test_129 : decode cX6_test 129 = .ok (.iadd, 1) := dk_96 (dk_at dksX6_test_5 10 rfl rfl)
theorem dX6_test_130 : decode cX6_test 130 = .ok (.aload_n 0, 1) := dk_42 (dk_at dksX6_test_5 11 rfl rfl)
theorem dX6_test_131 : decode cX6_test 131 = .ok (.getfield 117, 3) := dk_180 0 117 (dk_at dksX6_test_5 12 rfl rfl)
theorem dX6_test_134 : decode cX6_test 134 = .ok (.iastore, 1) := dk_79 (dk_at dksX6_test_5 15 rfl rfl)
theorem dX6_test_135 : decode cX6_test 135 = .ok (.aload_n 0, 1) := dk_42 (dk_at dksX6_test_5 16 rfl rfl)
theorem dX6_test_136 : decode cX6_test 136 = .ok (.invokevirtual 151, 3) := dk_182 0 151 (dk_at dksX6_test_5 17 rfl rfl)
theorem dX6_test_139 : decode cX6_test 139 = .ok (.aload_n 0, 1) := dk_42 (dk_at dksX6_test_5 20 rfl rfl)
theorem dX6_test_140 : decode cX6_test 140 = .ok (.iload_n 1, 1) := dk_27 (dk_at dksX6_test_5 21 rfl rfl)
theorem dX6_test_141 : decode cX6_test 141 = .ok (.iconst 3, 1) := dk_6 (dk_at dksX6_test_5 22 rfl rfl)
theorem dX6_test_142 : decode cX6_test 142 = .ok (.iadd, 1) := dk_96 (dk_at dksX6_test_5 23 rfl rfl)
theorem dX6_test_143 : decode cX6_test 143 = .ok (.iconst 0, 1) := dk_3 (dk_at dksX6_test_6 0 rfl rfl)
theorem dX6_test_144 : decode cX6_test 144 = .ok (.iload_n 2, 1) := dk_28 (dk_at dksX6_test_6 1 rfl rfl)
theorem dX6_test_145 : decode cX6_test 145 = .ok (.bipush 28, 2) := dk_16 28 (dk_at dksX6_test_6 2 rfl rfl)
theorem dX6_test_147 : decode cX6_test 147 = .ok (.if_icmp .ne 9, 3) := dk_160 0 9 (dk_at dksX6_test_6 4 rfl rfl)
theorem dX6_test_150 : decode cX6_test 150 = .ok (.sipush 999, 3) := dk_17 3 231 (dk_at dksX6_test_6 7 rfl rfl)
theorem dX6_test_153 : decode cX6_test 153 = .ok (.goto 6, 3) := dk_167 0 6 (dk_at dksX6_test_6 10 rfl rfl)
theorem dX6_test_156 : decode cX6_test 156 = .ok (.sipush 9999, 3) := dk_17 39 15 (dk_at dksX6_test_6 13 rfl rfl)
theorem dX6_test_159 : decode cX6_test 159 = .ok (.invokevirtual 184, 3) := dk_182 0 184 (dk_at dksX6_test_6 16 rfl rfl)
theorem dX6_test_162 : decode cX6_test 162 = .ok (.ireturn, 1) := dk_172 (dk_at dksX6_test_6 19 rfl rfl)
abbrev cX6_told : ByteArray := prog_16_method_69_code
def yX6_told : MethodName := ⟨RX6, "told", "(I)I"⟩
def dkwX6_told_4 : List UInt8 := [180, 0, 7, 27, 6, 100, 46, 182, 0, 79, 172, 42, 42, 180, 0, 7, 27, 46, 182, 0, 79, 172]
abbrev dktX6_told_4 : List UInt8 := dkwX6_told_4 ++ []
def dkwX6_told_3 : List UInt8 := [182, 1, 32, 182, 0, 79, 172, 42, 42, 180, 0, 7, 27, 6, 100, 46, 182, 0, 79, 172, 42, 42]
abbrev dktX6_told_3 : List UInt8 := dkwX6_told_3 ++ dktX6_told_4
def dkwX6_told_2 : List UInt8 := [42, 42, 182, 1, 17, 182, 0, 79, 172, 42, 42, 182, 1, 8, 184, 0, 254, 182, 0, 79, 172, 42, 42]
abbrev dktX6_told_2 : List UInt8 := dkwX6_told_2 ++ dktX6_told_3
def dkwX6_told_1 : List UInt8 := [170, 0, 0, 0, 0, 0, 99, 0, 0, 0, 5, 0, 0, 0, 11, 0, 0, 0, 43, 0, 0, 0, 52, 0, 0, 0, 64, 0, 0, 0, 73, 0, 0, 0, 73, 0, 0, 0, 86, 0, 0, 0, 86]
abbrev dktX6_told_1 : List UInt8 := dkwX6_told_1 ++ dktX6_told_2
def dkwX6_told_0 : List UInt8 := [27, 155, 0, 9, 27, 16, 11, 164, 0, 9, 42, 4, 182, 0, 75, 172, 27]
abbrev dktX6_told_0 : List UInt8 := dkwX6_told_0 ++ dktX6_told_1
theorem dksX6_told_0 : cX6_told.data.toList.drop 0 = dktX6_told_0 := by decide +kernel
theorem dksX6_told_1 : cX6_told.data.toList.drop 17 = dktX6_told_1 := dk_seg dksX6_told_0 17 rfl rfl
theorem dksX6_told_2 : cX6_told.data.toList.drop 60 = dktX6_told_2 := dk_seg dksX6_told_1 43 rfl rfl
theorem dksX6_told_3 : cX6_told.data.toList.drop 83 = dktX6_told_3 := dk_seg dksX6_told_2 23 rfl rfl
theorem dksX6_told_4 : cX6_told.data.toList.drop 105 = dktX6_told_4 := dk_seg dksX6_told_3 22 rfl rfl
theorem dX6_told_0 : decode cX6_told 0 = .ok (.iload_n 1, 1) := dk_27 (dk_at dksX6_told_0 0 rfl rfl)
theorem dX6_told_1 : decode cX6_told 1 = .ok (.ifCond .lt 9, 3) := dk_155 0 9 (dk_at dksX6_told_0 1 rfl rfl)
theorem dX6_told_4 : decode cX6_told 4 = .ok (.iload_n 1, 1) := dk_27 (dk_at dksX6_told_0 4 rfl rfl)
theorem dX6_told_5 : decode cX6_told 5 = .ok (.bipush 11, 2) := dk_16 11 (dk_at dksX6_told_0 5 rfl rfl)
theorem dX6_told_7 : decode cX6_told 7 = .ok (.if_icmp .le 9, 3) := dk_164 0 9 (dk_at dksX6_told_0 7 rfl rfl)
theorem dX6_told_10 : decode cX6_told 10 = .ok (.aload_n 0, 1) := dk_42 (dk_at dksX6_told_0 10 rfl rfl)
theorem dX6_told_11 : decode cX6_told 11 = .ok (.iconst 1, 1) := dk_4 (dk_at dksX6_told_0 11 rfl rfl)
theorem dX6_told_12 : decode cX6_told 12 = .ok (.invokevirtual 75, 3) := dk_182 0 75 (dk_at dksX6_told_0 12 rfl rfl)
theorem dX6_told_15 : decode cX6_told 15 = .ok (.ireturn, 1) := dk_172 (dk_at dksX6_told_0 15 rfl rfl)
theorem dX6_told_16 : decode cX6_told 16 = .ok (.iload_n 1, 1) := dk_27 (dk_at dksX6_told_0 16 rfl rfl)
theorem dX6_told_17 : decode cX6_told 17 = .ok (.tableswitch 99 5 11 #[43, 52, 64, 73, 73, 86, 86], 43) := by decide +kernel
theorem dX6_told_60 : decode cX6_told 60 = .ok (.aload_n 0, 1) := dk_42 (dk_at dksX6_told_2 0 rfl rfl)
theorem dX6_told_61 : decode cX6_told 61 = .ok (.aload_n 0, 1) := dk_42 (dk_at dksX6_told_2 1 rfl rfl)
theorem dX6_told_62 : decode cX6_told 62 = .ok (.invokevirtual 273, 3) := dk_182 1 17 (dk_at dksX6_told_2 2 rfl rfl)
theorem dX6_told_65 : decode cX6_told 65 = .ok (.invokevirtual 79, 3) := dk_182 0 79 (dk_at dksX6_told_2 5 rfl rfl)
theorem dX6_told_68 : decode cX6_told 68 = .ok (.ireturn, 1) := dk_172 (dk_at dksX6_told_2 8 rfl rfl)
theorem dX6_told_69 : decode cX6_told 69 = .ok (.aload_n 0, 1) := dk_42 (dk_at dksX6_told_2 9 rfl rfl)
theorem dX6_told_70 : decode cX6_told 70 = .ok (.aload_n 0, 1) := dk_42 (dk_at dksX6_told_2 10 rfl rfl)
theorem dX6_told_71 : decode cX6_told 71 = .ok (.invokevirtual 264, 3) := dk_182 1 8 (dk_at dksX6_told_2 11 rfl rfl)
theorem dX6_told_74 : decode cX6_told 74 = .ok (.invokestatic 254, 3) := dk_184 0 254 (dk_at dksX6_told_2 14 rfl rfl)
theorem dX6_told_77 : decode cX6_told 77 = .ok (.invokevirtual 79, 3) := dk_182 0 79 (dk_at dksX6_told_2 17 rfl rfl)
theorem dX6_told_80 : decode cX6_told 80 = .ok (.ireturn, 1) := dk_172 (dk_at dksX6_told_2 20 rfl rfl)
theorem dX6_told_81 : decode cX6_told 81 = .ok (.aload_n 0, 1) := dk_42 (dk_at dksX6_told_2 21 rfl rfl)
theorem dX6_told_82 : decode cX6_told 82 = .ok (.aload_n 0, 1) := dk_42 (dk_at dksX6_told_2 22 rfl rfl)
theorem dX6_told_83 : decode cX6_told 83 = .ok (.invokevirtual 288, 3) := dk_182 1 32 (dk_at dksX6_told_3 0 rfl rfl)
theorem dX6_told_86 : decode cX6_told 86 = .ok (.invokevirtual 79, 3) := dk_182 0 79 (dk_at dksX6_told_3 3 rfl rfl)
theorem dX6_told_89 : decode cX6_told 89 = .ok (.ireturn, 1) := dk_172 (dk_at dksX6_told_3 6 rfl rfl)
theorem dX6_told_90 : decode cX6_told 90 = .ok (.aload_n 0, 1) := dk_42 (dk_at dksX6_told_3 7 rfl rfl)
theorem dX6_told_91 : decode cX6_told 91 = .ok (.aload_n 0, 1) := dk_42 (dk_at dksX6_told_3 8 rfl rfl)
theorem dX6_told_92 : decode cX6_told 92 = .ok (.getfield 7, 3) := dk_180 0 7 (dk_at dksX6_told_3 9 rfl rfl)
theorem dX6_told_95 : decode cX6_told 95 = .ok (.iload_n 1, 1) := dk_27 (dk_at dksX6_told_3 12 rfl rfl)
theorem dX6_told_96 : decode cX6_told 96 = .ok (.iconst 3, 1) := dk_6 (dk_at dksX6_told_3 13 rfl rfl)
theorem dX6_told_97 : decode cX6_told 97 = .ok (.isub, 1) := dk_100 (dk_at dksX6_told_3 14 rfl rfl)
theorem dX6_told_98 : decode cX6_told 98 = .ok (.iaload, 1) := dk_46 (dk_at dksX6_told_3 15 rfl rfl)
theorem dX6_told_99 : decode cX6_told 99 = .ok (.invokevirtual 79, 3) := dk_182 0 79 (dk_at dksX6_told_3 16 rfl rfl)
theorem dX6_told_102 : decode cX6_told 102 = .ok (.ireturn, 1) := dk_172 (dk_at dksX6_told_3 19 rfl rfl)
theorem dX6_told_103 : decode cX6_told 103 = .ok (.aload_n 0, 1) := dk_42 (dk_at dksX6_told_3 20 rfl rfl)
theorem dX6_told_104 : decode cX6_told 104 = .ok (.aload_n 0, 1) := dk_42 (dk_at dksX6_told_3 21 rfl rfl)
theorem dX6_told_105 : decode cX6_told 105 = .ok (.getfield 7, 3) := dk_180 0 7 (dk_at dksX6_told_4 0 rfl rfl)
theorem dX6_told_108 : decode cX6_told 108 = .ok (.iload_n 1, 1) := dk_27 (dk_at dksX6_told_4 3 rfl rfl)
theorem dX6_told_109 : decode cX6_told 109 = .ok (.iconst 3, 1) := dk_6 (dk_at dksX6_told_4 4 rfl rfl)
theorem dX6_told_110 : decode cX6_told 110 = .ok (.isub, 1) := dk_100 (dk_at dksX6_told_4 5 rfl rfl)
theorem dX6_told_111 : decode cX6_told 111 = .ok (.iaload, 1) := dk_46 (dk_at dksX6_told_4 6 rfl rfl)
theorem dX6_told_112 : decode cX6_told 112 = .ok (.invokevirtual 79, 3) := dk_182 0 79 (dk_at dksX6_told_4 7 rfl rfl)
theorem dX6_told_115 : decode cX6_told 115 = .ok (.ireturn, 1) := dk_172 (dk_at dksX6_told_4 10 rfl rfl)
theorem dX6_told_116 : decode cX6_told 116 = .ok (.aload_n 0, 1) := dk_42 (dk_at dksX6_told_4 11 rfl rfl)
theorem dX6_told_117 : decode cX6_told 117 = .ok (.aload_n 0, 1) := dk_42 (dk_at dksX6_told_4 12 rfl rfl)
theorem dX6_told_118 : decode cX6_told 118 = .ok (.getfield 7, 3) := dk_180 0 7 (dk_at dksX6_told_4 13 rfl rfl)
theorem dX6_told_121 : decode cX6_told 121 = .ok (.iload_n 1, 1) := dk_27 (dk_at dksX6_told_4 16 rfl rfl)
theorem dX6_told_122 : decode cX6_told 122 = .ok (.iaload, 1) := dk_46 (dk_at dksX6_told_4 17 rfl rfl)
theorem dX6_told_123 : decode cX6_told 123 = .ok (.invokevirtual 79, 3) := dk_182 0 79 (dk_at dksX6_told_4 18 rfl rfl)
theorem dX6_told_126 : decode cX6_told 126 = .ok (.ireturn, 1) := dk_172 (dk_at dksX6_told_4 21 rfl rfl)
abbrev cX6_bill : ByteArray := prog_16_method_61_code
def yX6_bill : MethodName := ⟨RX6, "bill", "()I"⟩
def dkwX6_bill_1 : List UInt8 := [96, 46, 96, 60, 132, 2, 1, 167, 255, 229, 27, 172]
abbrev dktX6_bill_1 : List UInt8 := dkwX6_bill_1 ++ []
def dkwX6_bill_0 : List UInt8 := [3, 60, 3, 61, 28, 42, 180, 0, 7, 5, 46, 162, 0, 23, 27, 42, 180, 0, 7, 16, 60, 5, 28, 104]
abbrev dktX6_bill_0 : List UInt8 := dkwX6_bill_0 ++ dktX6_bill_1
theorem dksX6_bill_0 : cX6_bill.data.toList.drop 0 = dktX6_bill_0 := by decide +kernel
theorem dksX6_bill_1 : cX6_bill.data.toList.drop 24 = dktX6_bill_1 := dk_seg dksX6_bill_0 24 rfl rfl
theorem dX6_bill_0 : decode cX6_bill 0 = .ok (.iconst 0, 1) := dk_3 (dk_at dksX6_bill_0 0 rfl rfl)
theorem dX6_bill_1 : decode cX6_bill 1 = .ok (.istore_n 1, 1) := dk_60 (dk_at dksX6_bill_0 1 rfl rfl)
theorem dX6_bill_2 : decode cX6_bill 2 = .ok (.iconst 0, 1) := dk_3 (dk_at dksX6_bill_0 2 rfl rfl)
theorem dX6_bill_3 : decode cX6_bill 3 = .ok (.istore_n 2, 1) := dk_61 (dk_at dksX6_bill_0 3 rfl rfl)
theorem dX6_bill_4 : decode cX6_bill 4 = .ok (.iload_n 2, 1) := dk_28 (dk_at dksX6_bill_0 4 rfl rfl)
theorem dX6_bill_5 : decode cX6_bill 5 = .ok (.aload_n 0, 1) := dk_42 (dk_at dksX6_bill_0 5 rfl rfl)
theorem dX6_bill_6 : decode cX6_bill 6 = .ok (.getfield 7, 3) := dk_180 0 7 (dk_at dksX6_bill_0 6 rfl rfl)
theorem dX6_bill_9 : decode cX6_bill 9 = .ok (.iconst 2, 1) := dk_5 (dk_at dksX6_bill_0 9 rfl rfl)
theorem dX6_bill_10 : decode cX6_bill 10 = .ok (.iaload, 1) := dk_46 (dk_at dksX6_bill_0 10 rfl rfl)
theorem dX6_bill_11 : decode cX6_bill 11 = .ok (.if_icmp .ge 23, 3) := dk_162 0 23 (dk_at dksX6_bill_0 11 rfl rfl)
theorem dX6_bill_14 : decode cX6_bill 14 = .ok (.iload_n 1, 1) := dk_27 (dk_at dksX6_bill_0 14 rfl rfl)
theorem dX6_bill_15 : decode cX6_bill 15 = .ok (.aload_n 0, 1) := dk_42 (dk_at dksX6_bill_0 15 rfl rfl)
theorem dX6_bill_16 : decode cX6_bill 16 = .ok (.getfield 7, 3) := dk_180 0 7 (dk_at dksX6_bill_0 16 rfl rfl)
theorem dX6_bill_19 : decode cX6_bill 19 = .ok (.bipush 60, 2) := dk_16 60 (dk_at dksX6_bill_0 19 rfl rfl)
theorem dX6_bill_21 : decode cX6_bill 21 = .ok (.iconst 2, 1) := dk_5 (dk_at dksX6_bill_0 21 rfl rfl)
theorem dX6_bill_22 : decode cX6_bill 22 = .ok (.iload_n 2, 1) := dk_28 (dk_at dksX6_bill_0 22 rfl rfl)
theorem dX6_bill_23 : decode cX6_bill 23 = .ok (.imul, 1) := dk_104 (dk_at dksX6_bill_0 23 rfl rfl)
theorem dX6_bill_24 : decode cX6_bill 24 = .ok (.iadd, 1) := dk_96 (dk_at dksX6_bill_1 0 rfl rfl)
theorem dX6_bill_25 : decode cX6_bill 25 = .ok (.iaload, 1) := dk_46 (dk_at dksX6_bill_1 1 rfl rfl)
theorem dX6_bill_26 : decode cX6_bill 26 = .ok (.iadd, 1) := dk_96 (dk_at dksX6_bill_1 2 rfl rfl)
theorem dX6_bill_27 : decode cX6_bill 27 = .ok (.istore_n 1, 1) := dk_60 (dk_at dksX6_bill_1 3 rfl rfl)
theorem dX6_bill_28 : decode cX6_bill 28 = .ok (.iinc 2 1, 3) := dk_132 2 1 (dk_at dksX6_bill_1 4 rfl rfl)
theorem dX6_bill_31 : decode cX6_bill 31 = .ok (.goto (-27), 3) := dk_167 255 229 (dk_at dksX6_bill_1 7 rfl rfl)
theorem dX6_bill_34 : decode cX6_bill 34 = .ok (.iload_n 1, 1) := dk_27 (dk_at dksX6_bill_1 10 rfl rfl)
theorem dX6_bill_35 : decode cX6_bill 35 = .ok (.ireturn, 1) := dk_172 (dk_at dksX6_bill_1 11 rfl rfl)
abbrev cX6_heads : ByteArray := prog_16_method_59_code
def yX6_heads : MethodName := ⟨RX6, "heads", "()I"⟩
def dkwX6_heads_1 : List UInt8 := [182, 0, 251, 42, 180, 0, 7, 16, 7, 46, 2, 130, 126, 172]
abbrev dktX6_heads_1 : List UInt8 := dkwX6_heads_1 ++ []
def dkwX6_heads_0 : List UInt8 := [42, 180, 0, 7, 16, 7, 46, 42, 182, 0, 251, 160, 0, 10, 42, 182, 0, 251, 167, 0, 17, 42]
abbrev dktX6_heads_0 : List UInt8 := dkwX6_heads_0 ++ dktX6_heads_1
theorem dksX6_heads_0 : cX6_heads.data.toList.drop 0 = dktX6_heads_0 := by decide +kernel
theorem dksX6_heads_1 : cX6_heads.data.toList.drop 22 = dktX6_heads_1 := dk_seg dksX6_heads_0 22 rfl rfl
theorem dX6_heads_0 : decode cX6_heads 0 = .ok (.aload_n 0, 1) := dk_42 (dk_at dksX6_heads_0 0 rfl rfl)
theorem dX6_heads_1 : decode cX6_heads 1 = .ok (.getfield 7, 3) := dk_180 0 7 (dk_at dksX6_heads_0 1 rfl rfl)
theorem dX6_heads_4 : decode cX6_heads 4 = .ok (.bipush 7, 2) := dk_16 7 (dk_at dksX6_heads_0 4 rfl rfl)
theorem dX6_heads_6 : decode cX6_heads 6 = .ok (.iaload, 1) := dk_46 (dk_at dksX6_heads_0 6 rfl rfl)
theorem dX6_heads_7 : decode cX6_heads 7 = .ok (.aload_n 0, 1) := dk_42 (dk_at dksX6_heads_0 7 rfl rfl)
theorem dX6_heads_8 : decode cX6_heads 8 = .ok (.invokevirtual 251, 3) := dk_182 0 251 (dk_at dksX6_heads_0 8 rfl rfl)
theorem dX6_heads_11 : decode cX6_heads 11 = .ok (.if_icmp .ne 10, 3) := dk_160 0 10 (dk_at dksX6_heads_0 11 rfl rfl)
theorem dX6_heads_14 : decode cX6_heads 14 = .ok (.aload_n 0, 1) := dk_42 (dk_at dksX6_heads_0 14 rfl rfl)
theorem dX6_heads_15 : decode cX6_heads 15 = .ok (.invokevirtual 251, 3) := dk_182 0 251 (dk_at dksX6_heads_0 15 rfl rfl)
theorem dX6_heads_18 : decode cX6_heads 18 = .ok (.goto 17, 3) := dk_167 0 17 (dk_at dksX6_heads_0 18 rfl rfl)
theorem dX6_heads_21 : decode cX6_heads 21 = .ok (.aload_n 0, 1) := dk_42 (dk_at dksX6_heads_0 21 rfl rfl)
theorem dX6_heads_22 : decode cX6_heads 22 = .ok (.invokevirtual 251, 3) := dk_182 0 251 (dk_at dksX6_heads_1 0 rfl rfl)
theorem dX6_heads_25 : decode cX6_heads 25 = .ok (.aload_n 0, 1) := dk_42 (dk_at dksX6_heads_1 3 rfl rfl)
theorem dX6_heads_26 : decode cX6_heads 26 = .ok (.getfield 7, 3) := dk_180 0 7 (dk_at dksX6_heads_1 4 rfl rfl)
theorem dX6_heads_29 : decode cX6_heads 29 = .ok (.bipush 7, 2) := dk_16 7 (dk_at dksX6_heads_1 7 rfl rfl)
theorem dX6_heads_31 : decode cX6_heads 31 = .ok (.iaload, 1) := dk_46 (dk_at dksX6_heads_1 9 rfl rfl)
theorem dX6_heads_32 : decode cX6_heads 32 = .ok (.iconst (-1), 1) := dk_2 (dk_at dksX6_heads_1 10 rfl rfl)
theorem dX6_heads_33 : decode cX6_heads 33 = .ok (.ixor, 1) := dk_130 (dk_at dksX6_heads_1 11 rfl rfl)
theorem dX6_heads_34 : decode cX6_heads 34 = .ok (.iand, 1) := dk_126 (dk_at dksX6_heads_1 12 rfl rfl)
theorem dX6_heads_35 : decode cX6_heads 35 = .ok (.ireturn, 1) := dk_172 (dk_at dksX6_heads_1 13 rfl rfl)
abbrev cX6_everybody : ByteArray := prog_16_method_58_code
def yX6_everybody : MethodName := ⟨RX6, "everybody", "()I"⟩
def dkwX6_everybody_0 : List UInt8 := [4, 42, 180, 0, 7, 3, 46, 120, 4, 100, 172]
abbrev dktX6_everybody_0 : List UInt8 := dkwX6_everybody_0 ++ []
theorem dksX6_everybody_0 : cX6_everybody.data.toList.drop 0 = dktX6_everybody_0 := by decide +kernel
theorem dX6_everybody_0 : decode cX6_everybody 0 = .ok (.iconst 1, 1) := dk_4 (dk_at dksX6_everybody_0 0 rfl rfl)
theorem dX6_everybody_1 : decode cX6_everybody 1 = .ok (.aload_n 0, 1) := dk_42 (dk_at dksX6_everybody_0 1 rfl rfl)
theorem dX6_everybody_2 : decode cX6_everybody 2 = .ok (.getfield 7, 3) := dk_180 0 7 (dk_at dksX6_everybody_0 2 rfl rfl)
theorem dX6_everybody_5 : decode cX6_everybody 5 = .ok (.iconst 0, 1) := dk_3 (dk_at dksX6_everybody_0 5 rfl rfl)
theorem dX6_everybody_6 : decode cX6_everybody 6 = .ok (.iaload, 1) := dk_46 (dk_at dksX6_everybody_0 6 rfl rfl)
theorem dX6_everybody_7 : decode cX6_everybody 7 = .ok (.ishl, 1) := dk_120 (dk_at dksX6_everybody_0 7 rfl rfl)
theorem dX6_everybody_8 : decode cX6_everybody 8 = .ok (.iconst 1, 1) := dk_4 (dk_at dksX6_everybody_0 8 rfl rfl)
theorem dX6_everybody_9 : decode cX6_everybody 9 = .ok (.isub, 1) := dk_100 (dk_at dksX6_everybody_0 9 rfl rfl)
theorem dX6_everybody_10 : decode cX6_everybody 10 = .ok (.ireturn, 1) := dk_172 (dk_at dksX6_everybody_0 10 rfl rfl)
abbrev cX6_bits : ByteArray := prog_16_method_57_code
def yX6_bits : MethodName := ⟨RX6, "bits", "(I)I"⟩
def dkwX6_bits_0 : List UInt8 := [3, 60, 26, 61, 28, 153, 0, 15, 132, 1, 1, 28, 28, 4, 100, 126, 61, 167, 255, 243, 27, 172]
abbrev dktX6_bits_0 : List UInt8 := dkwX6_bits_0 ++ []
theorem dksX6_bits_0 : cX6_bits.data.toList.drop 0 = dktX6_bits_0 := by decide +kernel
theorem dX6_bits_0 : decode cX6_bits 0 = .ok (.iconst 0, 1) := dk_3 (dk_at dksX6_bits_0 0 rfl rfl)
theorem dX6_bits_1 : decode cX6_bits 1 = .ok (.istore_n 1, 1) := dk_60 (dk_at dksX6_bits_0 1 rfl rfl)
theorem dX6_bits_2 : decode cX6_bits 2 = .ok (.iload_n 0, 1) := dk_26 (dk_at dksX6_bits_0 2 rfl rfl)
theorem dX6_bits_3 : decode cX6_bits 3 = .ok (.istore_n 2, 1) := dk_61 (dk_at dksX6_bits_0 3 rfl rfl)
theorem dX6_bits_4 : decode cX6_bits 4 = .ok (.iload_n 2, 1) := dk_28 (dk_at dksX6_bits_0 4 rfl rfl)
theorem dX6_bits_5 : decode cX6_bits 5 = .ok (.ifCond .eq 15, 3) := dk_153 0 15 (dk_at dksX6_bits_0 5 rfl rfl)
theorem dX6_bits_8 : decode cX6_bits 8 = .ok (.iinc 1 1, 3) := dk_132 1 1 (dk_at dksX6_bits_0 8 rfl rfl)
theorem dX6_bits_11 : decode cX6_bits 11 = .ok (.iload_n 2, 1) := dk_28 (dk_at dksX6_bits_0 11 rfl rfl)
theorem dX6_bits_12 : decode cX6_bits 12 = .ok (.iload_n 2, 1) := dk_28 (dk_at dksX6_bits_0 12 rfl rfl)
theorem dX6_bits_13 : decode cX6_bits 13 = .ok (.iconst 1, 1) := dk_4 (dk_at dksX6_bits_0 13 rfl rfl)
theorem dX6_bits_14 : decode cX6_bits 14 = .ok (.isub, 1) := dk_100 (dk_at dksX6_bits_0 14 rfl rfl)
theorem dX6_bits_15 : decode cX6_bits 15 = .ok (.iand, 1) := dk_126 (dk_at dksX6_bits_0 15 rfl rfl)
theorem dX6_bits_16 : decode cX6_bits 16 = .ok (.istore_n 2, 1) := dk_61 (dk_at dksX6_bits_0 16 rfl rfl)
theorem dX6_bits_17 : decode cX6_bits 17 = .ok (.goto (-13), 3) := dk_167 255 243 (dk_at dksX6_bits_0 17 rfl rfl)
theorem dX6_bits_20 : decode cX6_bits 20 = .ok (.iload_n 1, 1) := dk_27 (dk_at dksX6_bits_0 20 rfl rfl)
theorem dX6_bits_21 : decode cX6_bits 21 = .ok (.ireturn, 1) := dk_172 (dk_at dksX6_bits_0 21 rfl rfl)
abbrev cX6_paidByAll : ByteArray := prog_16_method_68_code
def yX6_paidByAll : MethodName := ⟨RX6, "paidByAll", "()I"⟩
def dkwX6_paidByAll_1 : List UInt8 := [96, 46, 96, 60, 132, 2, 1, 167, 255, 229, 27, 172]
abbrev dktX6_paidByAll_1 : List UInt8 := dkwX6_paidByAll_1 ++ []
def dkwX6_paidByAll_0 : List UInt8 := [3, 60, 3, 61, 28, 42, 180, 0, 7, 3, 46, 162, 0, 23, 27, 42, 180, 0, 7, 28, 184, 1, 11, 8]
abbrev dktX6_paidByAll_0 : List UInt8 := dkwX6_paidByAll_0 ++ dktX6_paidByAll_1
theorem dksX6_paidByAll_0 : cX6_paidByAll.data.toList.drop 0 = dktX6_paidByAll_0 := by decide +kernel
theorem dksX6_paidByAll_1 : cX6_paidByAll.data.toList.drop 24 = dktX6_paidByAll_1 := dk_seg dksX6_paidByAll_0 24 rfl rfl
theorem dX6_paidByAll_0 : decode cX6_paidByAll 0 = .ok (.iconst 0, 1) := dk_3 (dk_at dksX6_paidByAll_0 0 rfl rfl)
theorem dX6_paidByAll_1 : decode cX6_paidByAll 1 = .ok (.istore_n 1, 1) := dk_60 (dk_at dksX6_paidByAll_0 1 rfl rfl)
theorem dX6_paidByAll_2 : decode cX6_paidByAll 2 = .ok (.iconst 0, 1) := dk_3 (dk_at dksX6_paidByAll_0 2 rfl rfl)
theorem dX6_paidByAll_3 : decode cX6_paidByAll 3 = .ok (.istore_n 2, 1) := dk_61 (dk_at dksX6_paidByAll_0 3 rfl rfl)
theorem dX6_paidByAll_4 : decode cX6_paidByAll 4 = .ok (.iload_n 2, 1) := dk_28 (dk_at dksX6_paidByAll_0 4 rfl rfl)
theorem dX6_paidByAll_5 : decode cX6_paidByAll 5 = .ok (.aload_n 0, 1) := dk_42 (dk_at dksX6_paidByAll_0 5 rfl rfl)
theorem dX6_paidByAll_6 : decode cX6_paidByAll 6 = .ok (.getfield 7, 3) := dk_180 0 7 (dk_at dksX6_paidByAll_0 6 rfl rfl)
theorem dX6_paidByAll_9 : decode cX6_paidByAll 9 = .ok (.iconst 0, 1) := dk_3 (dk_at dksX6_paidByAll_0 9 rfl rfl)
theorem dX6_paidByAll_10 : decode cX6_paidByAll 10 = .ok (.iaload, 1) := dk_46 (dk_at dksX6_paidByAll_0 10 rfl rfl)
theorem dX6_paidByAll_11 : decode cX6_paidByAll 11 = .ok (.if_icmp .ge 23, 3) := dk_162 0 23 (dk_at dksX6_paidByAll_0 11 rfl rfl)
theorem dX6_paidByAll_14 : decode cX6_paidByAll 14 = .ok (.iload_n 1, 1) := dk_27 (dk_at dksX6_paidByAll_0 14 rfl rfl)
theorem dX6_paidByAll_15 : decode cX6_paidByAll 15 = .ok (.aload_n 0, 1) := dk_42 (dk_at dksX6_paidByAll_0 15 rfl rfl)
theorem dX6_paidByAll_16 : decode cX6_paidByAll 16 = .ok (.getfield 7, 3) := dk_180 0 7 (dk_at dksX6_paidByAll_0 16 rfl rfl)
theorem dX6_paidByAll_19 : decode cX6_paidByAll 19 = .ok (.iload_n 2, 1) := dk_28 (dk_at dksX6_paidByAll_0 19 rfl rfl)
theorem dX6_paidByAll_20 : decode cX6_paidByAll 20 = .ok (.invokestatic 267, 3) := dk_184 1 11 (dk_at dksX6_paidByAll_0 20 rfl rfl)
theorem dX6_paidByAll_23 : decode cX6_paidByAll 23 = .ok (.iconst 5, 1) := dk_8 (dk_at dksX6_paidByAll_0 23 rfl rfl)
theorem dX6_paidByAll_24 : decode cX6_paidByAll 24 = .ok (.iadd, 1) := dk_96 (dk_at dksX6_paidByAll_1 0 rfl rfl)
theorem dX6_paidByAll_25 : decode cX6_paidByAll 25 = .ok (.iaload, 1) := dk_46 (dk_at dksX6_paidByAll_1 1 rfl rfl)
theorem dX6_paidByAll_26 : decode cX6_paidByAll 26 = .ok (.iadd, 1) := dk_96 (dk_at dksX6_paidByAll_1 2 rfl rfl)
theorem dX6_paidByAll_27 : decode cX6_paidByAll 27 = .ok (.istore_n 1, 1) := dk_60 (dk_at dksX6_paidByAll_1 3 rfl rfl)
theorem dX6_paidByAll_28 : decode cX6_paidByAll 28 = .ok (.iinc 2 1, 3) := dk_132 2 1 (dk_at dksX6_paidByAll_1 4 rfl rfl)
theorem dX6_paidByAll_31 : decode cX6_paidByAll 31 = .ok (.goto (-27), 3) := dk_167 255 229 (dk_at dksX6_paidByAll_1 7 rfl rfl)
theorem dX6_paidByAll_34 : decode cX6_paidByAll 34 = .ok (.iload_n 1, 1) := dk_27 (dk_at dksX6_paidByAll_1 10 rfl rfl)
theorem dX6_paidByAll_35 : decode cX6_paidByAll 35 = .ok (.ireturn, 1) := dk_172 (dk_at dksX6_paidByAll_1 11 rfl rfl)
abbrev cX6_personRow : ByteArray := prog_16_method_53_code
def yX6_personRow : MethodName := ⟨RX6, "personRow", "(I)I"⟩
def dkwX6_personRow_0 : List UInt8 := [16, 12, 16, 8, 26, 104, 96, 172]
abbrev dktX6_personRow_0 : List UInt8 := dkwX6_personRow_0 ++ []
theorem dksX6_personRow_0 : cX6_personRow.data.toList.drop 0 = dktX6_personRow_0 := by decide +kernel
theorem dX6_personRow_0 : decode cX6_personRow 0 = .ok (.bipush 12, 2) := dk_16 12 (dk_at dksX6_personRow_0 0 rfl rfl)
theorem dX6_personRow_2 : decode cX6_personRow 2 = .ok (.bipush 8, 2) := dk_16 8 (dk_at dksX6_personRow_0 2 rfl rfl)
theorem dX6_personRow_4 : decode cX6_personRow 4 = .ok (.iload_n 0, 1) := dk_26 (dk_at dksX6_personRow_0 4 rfl rfl)
theorem dX6_personRow_5 : decode cX6_personRow 5 = .ok (.imul, 1) := dk_104 (dk_at dksX6_personRow_0 5 rfl rfl)
theorem dX6_personRow_6 : decode cX6_personRow 6 = .ok (.iadd, 1) := dk_96 (dk_at dksX6_personRow_0 6 rfl rfl)
theorem dX6_personRow_7 : decode cX6_personRow 7 = .ok (.ireturn, 1) := dk_172 (dk_at dksX6_personRow_0 7 rfl rfl)
abbrev cX6_person : ByteArray := prog_16_method_70_code
def yX6_person : MethodName := ⟨RX6, "person", "(II)I"⟩
def dkwX6_person_2 : List UInt8 := [42, 29, 182, 0, 79, 172]
abbrev dktX6_person_2 : List UInt8 := dkwX6_person_2 ++ []
def dkwX6_person_1 : List UInt8 := [180, 0, 7, 27, 184, 1, 11, 28, 96, 46, 62, 28, 7, 160, 0, 11, 42, 29, 182, 1, 35, 167, 0, 8]
abbrev dktX6_person_1 : List UInt8 := dkwX6_person_1 ++ dktX6_person_2
def dkwX6_person_0 : List UInt8 := [42, 27, 182, 0, 248, 153, 0, 12, 28, 155, 0, 8, 28, 8, 164, 0, 9, 42, 4, 182, 0, 75, 172, 42]
abbrev dktX6_person_0 : List UInt8 := dkwX6_person_0 ++ dktX6_person_1
theorem dksX6_person_0 : cX6_person.data.toList.drop 0 = dktX6_person_0 := by decide +kernel
theorem dksX6_person_1 : cX6_person.data.toList.drop 24 = dktX6_person_1 := dk_seg dksX6_person_0 24 rfl rfl
theorem dksX6_person_2 : cX6_person.data.toList.drop 48 = dktX6_person_2 := dk_seg dksX6_person_1 24 rfl rfl
theorem dX6_person_0 : decode cX6_person 0 = .ok (.aload_n 0, 1) := dk_42 (dk_at dksX6_person_0 0 rfl rfl)
theorem dX6_person_1 : decode cX6_person 1 = .ok (.iload_n 1, 1) := dk_27 (dk_at dksX6_person_0 1 rfl rfl)
theorem dX6_person_2 : decode cX6_person 2 = .ok (.invokevirtual 248, 3) := dk_182 0 248 (dk_at dksX6_person_0 2 rfl rfl)
theorem dX6_person_5 : decode cX6_person 5 = .ok (.ifCond .eq 12, 3) := dk_153 0 12 (dk_at dksX6_person_0 5 rfl rfl)
theorem dX6_person_8 : decode cX6_person 8 = .ok (.iload_n 2, 1) := dk_28 (dk_at dksX6_person_0 8 rfl rfl)
theorem dX6_person_9 : decode cX6_person 9 = .ok (.ifCond .lt 8, 3) := dk_155 0 8 (dk_at dksX6_person_0 9 rfl rfl)
theorem dX6_person_12 : decode cX6_person 12 = .ok (.iload_n 2, 1) := dk_28 (dk_at dksX6_person_0 12 rfl rfl)
theorem dX6_person_13 : decode cX6_person 13 = .ok (.iconst 5, 1) := dk_8 (dk_at dksX6_person_0 13 rfl rfl)
theorem dX6_person_14 : decode cX6_person 14 = .ok (.if_icmp .le 9, 3) := dk_164 0 9 (dk_at dksX6_person_0 14 rfl rfl)
theorem dX6_person_17 : decode cX6_person 17 = .ok (.aload_n 0, 1) := dk_42 (dk_at dksX6_person_0 17 rfl rfl)
theorem dX6_person_18 : decode cX6_person 18 = .ok (.iconst 1, 1) := dk_4 (dk_at dksX6_person_0 18 rfl rfl)
theorem dX6_person_19 : decode cX6_person 19 = .ok (.invokevirtual 75, 3) := dk_182 0 75 (dk_at dksX6_person_0 19 rfl rfl)
theorem dX6_person_22 : decode cX6_person 22 = .ok (.ireturn, 1) := dk_172 (dk_at dksX6_person_0 22 rfl rfl)
theorem dX6_person_23 : decode cX6_person 23 = .ok (.aload_n 0, 1) := dk_42 (dk_at dksX6_person_0 23 rfl rfl)
theorem dX6_person_24 : decode cX6_person 24 = .ok (.getfield 7, 3) := dk_180 0 7 (dk_at dksX6_person_1 0 rfl rfl)
theorem dX6_person_27 : decode cX6_person 27 = .ok (.iload_n 1, 1) := dk_27 (dk_at dksX6_person_1 3 rfl rfl)
theorem dX6_person_28 : decode cX6_person 28 = .ok (.invokestatic 267, 3) := dk_184 1 11 (dk_at dksX6_person_1 4 rfl rfl)
theorem dX6_person_31 : decode cX6_person 31 = .ok (.iload_n 2, 1) := dk_28 (dk_at dksX6_person_1 7 rfl rfl)
theorem dX6_person_32 : decode cX6_person 32 = .ok (.iadd, 1) := dk_96 (dk_at dksX6_person_1 8 rfl rfl)
theorem dX6_person_33 : decode cX6_person 33 = .ok (.iaload, 1) := dk_46 (dk_at dksX6_person_1 9 rfl rfl)
theorem dX6_person_34 : decode cX6_person 34 = .ok (.istore_n 3, 1) := dk_62 (dk_at dksX6_person_1 10 rfl rfl)
theorem dX6_person_35 : decode cX6_person 35 = .ok (.iload_n 2, 1) := dk_28 (dk_at dksX6_person_1 11 rfl rfl)
theorem dX6_person_36 : decode cX6_person 36 = .ok (.iconst 4, 1) := dk_7 (dk_at dksX6_person_1 12 rfl rfl)
theorem dX6_person_37 : decode cX6_person 37 = .ok (.if_icmp .ne 11, 3) := dk_160 0 11 (dk_at dksX6_person_1 13 rfl rfl)
theorem dX6_person_40 : decode cX6_person 40 = .ok (.aload_n 0, 1) := dk_42 (dk_at dksX6_person_1 16 rfl rfl)
theorem dX6_person_41 : decode cX6_person 41 = .ok (.iload_n 3, 1) := dk_29 (dk_at dksX6_person_1 17 rfl rfl)
theorem dX6_person_42 : decode cX6_person 42 = .ok (.invokevirtual 291, 3) := dk_182 1 35 (dk_at dksX6_person_1 18 rfl rfl)
theorem dX6_person_45 : decode cX6_person 45 = .ok (.goto 8, 3) := dk_167 0 8 (dk_at dksX6_person_1 21 rfl rfl)
theorem dX6_person_48 : decode cX6_person 48 = .ok (.aload_n 0, 1) := dk_42 (dk_at dksX6_person_2 0 rfl rfl)
theorem dX6_person_49 : decode cX6_person 49 = .ok (.iload_n 3, 1) := dk_29 (dk_at dksX6_person_2 1 rfl rfl)
theorem dX6_person_50 : decode cX6_person 50 = .ok (.invokevirtual 79, 3) := dk_182 0 79 (dk_at dksX6_person_2 2 rfl rfl)
theorem dX6_person_53 : decode cX6_person 53 = .ok (.ireturn, 1) := dk_172 (dk_at dksX6_person_2 5 rfl rfl)
abbrev cX6_isPerson : ByteArray := prog_16_method_55_code
def yX6_isPerson : MethodName := ⟨RX6, "isPerson", "(I)Z"⟩
def dkwX6_isPerson_0 : List UInt8 := [27, 155, 0, 17, 27, 42, 180, 0, 7, 3, 46, 162, 0, 7, 4, 167, 0, 4, 3, 172]
abbrev dktX6_isPerson_0 : List UInt8 := dkwX6_isPerson_0 ++ []
theorem dksX6_isPerson_0 : cX6_isPerson.data.toList.drop 0 = dktX6_isPerson_0 := by decide +kernel
theorem dX6_isPerson_0 : decode cX6_isPerson 0 = .ok (.iload_n 1, 1) := dk_27 (dk_at dksX6_isPerson_0 0 rfl rfl)
theorem dX6_isPerson_1 : decode cX6_isPerson 1 = .ok (.ifCond .lt 17, 3) := dk_155 0 17 (dk_at dksX6_isPerson_0 1 rfl rfl)
theorem dX6_isPerson_4 : decode cX6_isPerson 4 = .ok (.iload_n 1, 1) := dk_27 (dk_at dksX6_isPerson_0 4 rfl rfl)
theorem dX6_isPerson_5 : decode cX6_isPerson 5 = .ok (.aload_n 0, 1) := dk_42 (dk_at dksX6_isPerson_0 5 rfl rfl)
theorem dX6_isPerson_6 : decode cX6_isPerson 6 = .ok (.getfield 7, 3) := dk_180 0 7 (dk_at dksX6_isPerson_0 6 rfl rfl)
theorem dX6_isPerson_9 : decode cX6_isPerson 9 = .ok (.iconst 0, 1) := dk_3 (dk_at dksX6_isPerson_0 9 rfl rfl)
theorem dX6_isPerson_10 : decode cX6_isPerson 10 = .ok (.iaload, 1) := dk_46 (dk_at dksX6_isPerson_0 10 rfl rfl)
theorem dX6_isPerson_11 : decode cX6_isPerson 11 = .ok (.if_icmp .ge 7, 3) := dk_162 0 7 (dk_at dksX6_isPerson_0 11 rfl rfl)
theorem dX6_isPerson_14 : decode cX6_isPerson 14 = .ok (.iconst 1, 1) := dk_4 (dk_at dksX6_isPerson_0 14 rfl rfl)
theorem dX6_isPerson_15 : decode cX6_isPerson 15 = .ok (.goto 4, 3) := dk_167 0 4 (dk_at dksX6_isPerson_0 15 rfl rfl)
theorem dX6_isPerson_18 : decode cX6_isPerson 18 = .ok (.iconst 0, 1) := dk_3 (dk_at dksX6_isPerson_0 18 rfl rfl)
theorem dX6_isPerson_19 : decode cX6_isPerson 19 = .ok (.ireturn, 1) := dk_172 (dk_at dksX6_isPerson_0 19 rfl rfl)
abbrev cX6_orNone : ByteArray := prog_16_method_9_code
def yX6_orNone : MethodName := ⟨RX6, "orNone", "(I)I"⟩
def dkwX6_orNone_0 : List UInt8 := [27, 2, 160, 0, 12, 42, 16, 6, 182, 0, 75, 167, 0, 8, 42, 27, 182, 0, 79, 172]
abbrev dktX6_orNone_0 : List UInt8 := dkwX6_orNone_0 ++ []
theorem dksX6_orNone_0 : cX6_orNone.data.toList.drop 0 = dktX6_orNone_0 := by decide +kernel
theorem dX6_orNone_0 : decode cX6_orNone 0 = .ok (.iload_n 1, 1) := dk_27 (dk_at dksX6_orNone_0 0 rfl rfl)
theorem dX6_orNone_1 : decode cX6_orNone 1 = .ok (.iconst (-1), 1) := dk_2 (dk_at dksX6_orNone_0 1 rfl rfl)
theorem dX6_orNone_2 : decode cX6_orNone 2 = .ok (.if_icmp .ne 12, 3) := dk_160 0 12 (dk_at dksX6_orNone_0 2 rfl rfl)
theorem dX6_orNone_5 : decode cX6_orNone 5 = .ok (.aload_n 0, 1) := dk_42 (dk_at dksX6_orNone_0 5 rfl rfl)
theorem dX6_orNone_6 : decode cX6_orNone 6 = .ok (.bipush 6, 2) := dk_16 6 (dk_at dksX6_orNone_0 6 rfl rfl)
theorem dX6_orNone_8 : decode cX6_orNone 8 = .ok (.invokevirtual 75, 3) := dk_182 0 75 (dk_at dksX6_orNone_0 8 rfl rfl)
theorem dX6_orNone_11 : decode cX6_orNone 11 = .ok (.goto 8, 3) := dk_167 0 8 (dk_at dksX6_orNone_0 11 rfl rfl)
theorem dX6_orNone_14 : decode cX6_orNone 14 = .ok (.aload_n 0, 1) := dk_42 (dk_at dksX6_orNone_0 14 rfl rfl)
theorem dX6_orNone_15 : decode cX6_orNone 15 = .ok (.iload_n 1, 1) := dk_27 (dk_at dksX6_orNone_0 15 rfl rfl)
theorem dX6_orNone_16 : decode cX6_orNone 16 = .ok (.invokevirtual 79, 3) := dk_182 0 79 (dk_at dksX6_orNone_0 16 rfl rfl)
theorem dX6_orNone_19 : decode cX6_orNone 19 = .ok (.ireturn, 1) := dk_172 (dk_at dksX6_orNone_0 19 rfl rfl)
abbrev cX6_dish : ByteArray := prog_16_method_71_code
def yX6_dish : MethodName := ⟨RX6, "dish", "(II)I"⟩
def dkwX6_dish_1 : List UInt8 := [4, 182, 0, 75, 172, 42, 42, 180, 0, 7, 16, 60, 5, 27, 104, 96, 28, 96, 46, 182, 1, 35, 172]
abbrev dktX6_dish_1 : List UInt8 := dkwX6_dish_1 ++ []
def dkwX6_dish_0 : List UInt8 := [27, 155, 0, 22, 27, 42, 180, 0, 7, 5, 46, 162, 0, 12, 28, 155, 0, 8, 28, 4, 164, 0, 9, 42]
abbrev dktX6_dish_0 : List UInt8 := dkwX6_dish_0 ++ dktX6_dish_1
theorem dksX6_dish_0 : cX6_dish.data.toList.drop 0 = dktX6_dish_0 := by decide +kernel
theorem dksX6_dish_1 : cX6_dish.data.toList.drop 24 = dktX6_dish_1 := dk_seg dksX6_dish_0 24 rfl rfl
theorem dX6_dish_0 : decode cX6_dish 0 = .ok (.iload_n 1, 1) := dk_27 (dk_at dksX6_dish_0 0 rfl rfl)
theorem dX6_dish_1 : decode cX6_dish 1 = .ok (.ifCond .lt 22, 3) := dk_155 0 22 (dk_at dksX6_dish_0 1 rfl rfl)
theorem dX6_dish_4 : decode cX6_dish 4 = .ok (.iload_n 1, 1) := dk_27 (dk_at dksX6_dish_0 4 rfl rfl)
theorem dX6_dish_5 : decode cX6_dish 5 = .ok (.aload_n 0, 1) := dk_42 (dk_at dksX6_dish_0 5 rfl rfl)
theorem dX6_dish_6 : decode cX6_dish 6 = .ok (.getfield 7, 3) := dk_180 0 7 (dk_at dksX6_dish_0 6 rfl rfl)
theorem dX6_dish_9 : decode cX6_dish 9 = .ok (.iconst 2, 1) := dk_5 (dk_at dksX6_dish_0 9 rfl rfl)
theorem dX6_dish_10 : decode cX6_dish 10 = .ok (.iaload, 1) := dk_46 (dk_at dksX6_dish_0 10 rfl rfl)
theorem dX6_dish_11 : decode cX6_dish 11 = .ok (.if_icmp .ge 12, 3) := dk_162 0 12 (dk_at dksX6_dish_0 11 rfl rfl)
theorem dX6_dish_14 : decode cX6_dish 14 = .ok (.iload_n 2, 1) := dk_28 (dk_at dksX6_dish_0 14 rfl rfl)
theorem dX6_dish_15 : decode cX6_dish 15 = .ok (.ifCond .lt 8, 3) := dk_155 0 8 (dk_at dksX6_dish_0 15 rfl rfl)
theorem dX6_dish_18 : decode cX6_dish 18 = .ok (.iload_n 2, 1) := dk_28 (dk_at dksX6_dish_0 18 rfl rfl)
theorem dX6_dish_19 : decode cX6_dish 19 = .ok (.iconst 1, 1) := dk_4 (dk_at dksX6_dish_0 19 rfl rfl)
theorem dX6_dish_20 : decode cX6_dish 20 = .ok (.if_icmp .le 9, 3) := dk_164 0 9 (dk_at dksX6_dish_0 20 rfl rfl)
theorem dX6_dish_23 : decode cX6_dish 23 = .ok (.aload_n 0, 1) := dk_42 (dk_at dksX6_dish_0 23 rfl rfl)
theorem dX6_dish_24 : decode cX6_dish 24 = .ok (.iconst 1, 1) := dk_4 (dk_at dksX6_dish_1 0 rfl rfl)
theorem dX6_dish_25 : decode cX6_dish 25 = .ok (.invokevirtual 75, 3) := dk_182 0 75 (dk_at dksX6_dish_1 1 rfl rfl)
theorem dX6_dish_28 : decode cX6_dish 28 = .ok (.ireturn, 1) := dk_172 (dk_at dksX6_dish_1 4 rfl rfl)
theorem dX6_dish_29 : decode cX6_dish 29 = .ok (.aload_n 0, 1) := dk_42 (dk_at dksX6_dish_1 5 rfl rfl)
theorem dX6_dish_30 : decode cX6_dish 30 = .ok (.aload_n 0, 1) := dk_42 (dk_at dksX6_dish_1 6 rfl rfl)
theorem dX6_dish_31 : decode cX6_dish 31 = .ok (.getfield 7, 3) := dk_180 0 7 (dk_at dksX6_dish_1 7 rfl rfl)
theorem dX6_dish_34 : decode cX6_dish 34 = .ok (.bipush 60, 2) := dk_16 60 (dk_at dksX6_dish_1 10 rfl rfl)
theorem dX6_dish_36 : decode cX6_dish 36 = .ok (.iconst 2, 1) := dk_5 (dk_at dksX6_dish_1 12 rfl rfl)
theorem dX6_dish_37 : decode cX6_dish 37 = .ok (.iload_n 1, 1) := dk_27 (dk_at dksX6_dish_1 13 rfl rfl)
theorem dX6_dish_38 : decode cX6_dish 38 = .ok (.imul, 1) := dk_104 (dk_at dksX6_dish_1 14 rfl rfl)
theorem dX6_dish_39 : decode cX6_dish 39 = .ok (.iadd, 1) := dk_96 (dk_at dksX6_dish_1 15 rfl rfl)
theorem dX6_dish_40 : decode cX6_dish 40 = .ok (.iload_n 2, 1) := dk_28 (dk_at dksX6_dish_1 16 rfl rfl)
theorem dX6_dish_41 : decode cX6_dish 41 = .ok (.iadd, 1) := dk_96 (dk_at dksX6_dish_1 17 rfl rfl)
theorem dX6_dish_42 : decode cX6_dish 42 = .ok (.iaload, 1) := dk_46 (dk_at dksX6_dish_1 18 rfl rfl)
theorem dX6_dish_43 : decode cX6_dish 43 = .ok (.invokevirtual 291, 3) := dk_182 1 35 (dk_at dksX6_dish_1 19 rfl rfl)
theorem dX6_dish_46 : decode cX6_dish 46 = .ok (.ireturn, 1) := dk_172 (dk_at dksX6_dish_1 22 rfl rfl)
abbrev cX6_eaten : ByteArray := prog_16_method_72_code
def yX6_eaten : MethodName := ⟨RX6, "eaten", "(I)I"⟩
def dkwX6_eaten_1 : List UInt8 := [182, 0, 75, 172]
abbrev dktX6_eaten_1 : List UInt8 := dkwX6_eaten_1 ++ []
def dkwX6_eaten_0 : List UInt8 := [42, 27, 182, 0, 248, 153, 0, 15, 42, 42, 27, 182, 1, 23, 182, 0, 79, 167, 0, 8, 42, 4]
abbrev dktX6_eaten_0 : List UInt8 := dkwX6_eaten_0 ++ dktX6_eaten_1
theorem dksX6_eaten_0 : cX6_eaten.data.toList.drop 0 = dktX6_eaten_0 := by decide +kernel
theorem dksX6_eaten_1 : cX6_eaten.data.toList.drop 22 = dktX6_eaten_1 := dk_seg dksX6_eaten_0 22 rfl rfl
theorem dX6_eaten_0 : decode cX6_eaten 0 = .ok (.aload_n 0, 1) := dk_42 (dk_at dksX6_eaten_0 0 rfl rfl)
theorem dX6_eaten_1 : decode cX6_eaten 1 = .ok (.iload_n 1, 1) := dk_27 (dk_at dksX6_eaten_0 1 rfl rfl)
theorem dX6_eaten_2 : decode cX6_eaten 2 = .ok (.invokevirtual 248, 3) := dk_182 0 248 (dk_at dksX6_eaten_0 2 rfl rfl)
theorem dX6_eaten_5 : decode cX6_eaten 5 = .ok (.ifCond .eq 15, 3) := dk_153 0 15 (dk_at dksX6_eaten_0 5 rfl rfl)
theorem dX6_eaten_8 : decode cX6_eaten 8 = .ok (.aload_n 0, 1) := dk_42 (dk_at dksX6_eaten_0 8 rfl rfl)
theorem dX6_eaten_9 : decode cX6_eaten 9 = .ok (.aload_n 0, 1) := dk_42 (dk_at dksX6_eaten_0 9 rfl rfl)
theorem dX6_eaten_10 : decode cX6_eaten 10 = .ok (.iload_n 1, 1) := dk_27 (dk_at dksX6_eaten_0 10 rfl rfl)
theorem dX6_eaten_11 : decode cX6_eaten 11 = .ok (.invokevirtual 279, 3) := dk_182 1 23 (dk_at dksX6_eaten_0 11 rfl rfl)
theorem dX6_eaten_14 : decode cX6_eaten 14 = .ok (.invokevirtual 79, 3) := dk_182 0 79 (dk_at dksX6_eaten_0 14 rfl rfl)
theorem dX6_eaten_17 : decode cX6_eaten 17 = .ok (.goto 8, 3) := dk_167 0 8 (dk_at dksX6_eaten_0 17 rfl rfl)
theorem dX6_eaten_20 : decode cX6_eaten 20 = .ok (.aload_n 0, 1) := dk_42 (dk_at dksX6_eaten_0 20 rfl rfl)
theorem dX6_eaten_21 : decode cX6_eaten 21 = .ok (.iconst 1, 1) := dk_4 (dk_at dksX6_eaten_0 21 rfl rfl)
theorem dX6_eaten_22 : decode cX6_eaten 22 = .ok (.invokevirtual 75, 3) := dk_182 0 75 (dk_at dksX6_eaten_1 0 rfl rfl)
theorem dX6_eaten_25 : decode cX6_eaten 25 = .ok (.ireturn, 1) := dk_172 (dk_at dksX6_eaten_1 3 rfl rfl)
abbrev cX6_eatenBy : ByteArray := prog_16_method_64_code
def yX6_eatenBy : MethodName := ⟨RX6, "eatenBy", "(I)I"⟩
def dkwX6_eatenBy_2 : List UInt8 := [180, 0, 7, 16, 60, 5, 29, 104, 96, 46, 167, 0, 4, 3, 96, 61, 132, 3, 1, 167, 255, 208, 28, 172]
abbrev dktX6_eatenBy_2 : List UInt8 := dkwX6_eatenBy_2 ++ []
def dkwX6_eatenBy_1 : List UInt8 := [162, 0, 44, 28, 42, 180, 0, 7, 16, 60, 5, 29, 104, 96, 4, 96, 46, 27, 160, 0, 17, 42]
abbrev dktX6_eatenBy_1 : List UInt8 := dkwX6_eatenBy_1 ++ dktX6_eatenBy_2
def dkwX6_eatenBy_0 : List UInt8 := [42, 182, 1, 1, 42, 182, 0, 251, 27, 184, 1, 4, 61, 3, 62, 29, 42, 180, 0, 7, 5, 46]
abbrev dktX6_eatenBy_0 : List UInt8 := dkwX6_eatenBy_0 ++ dktX6_eatenBy_1
theorem dksX6_eatenBy_0 : cX6_eatenBy.data.toList.drop 0 = dktX6_eatenBy_0 := by decide +kernel
theorem dksX6_eatenBy_1 : cX6_eatenBy.data.toList.drop 22 = dktX6_eatenBy_1 := dk_seg dksX6_eatenBy_0 22 rfl rfl
theorem dksX6_eatenBy_2 : cX6_eatenBy.data.toList.drop 44 = dktX6_eatenBy_2 := dk_seg dksX6_eatenBy_1 22 rfl rfl
theorem dX6_eatenBy_0 : decode cX6_eatenBy 0 = .ok (.aload_n 0, 1) := dk_42 (dk_at dksX6_eatenBy_0 0 rfl rfl)
theorem dX6_eatenBy_1 : decode cX6_eatenBy 1 = .ok (.invokevirtual 257, 3) := dk_182 1 1 (dk_at dksX6_eatenBy_0 1 rfl rfl)
theorem dX6_eatenBy_4 : decode cX6_eatenBy 4 = .ok (.aload_n 0, 1) := dk_42 (dk_at dksX6_eatenBy_0 4 rfl rfl)
theorem dX6_eatenBy_5 : decode cX6_eatenBy 5 = .ok (.invokevirtual 251, 3) := dk_182 0 251 (dk_at dksX6_eatenBy_0 5 rfl rfl)
theorem dX6_eatenBy_8 : decode cX6_eatenBy 8 = .ok (.iload_n 1, 1) := dk_27 (dk_at dksX6_eatenBy_0 8 rfl rfl)
theorem dX6_eatenBy_9 : decode cX6_eatenBy 9 = .ok (.invokestatic 260, 3) := dk_184 1 4 (dk_at dksX6_eatenBy_0 9 rfl rfl)
theorem dX6_eatenBy_12 : decode cX6_eatenBy 12 = .ok (.istore_n 2, 1) := dk_61 (dk_at dksX6_eatenBy_0 12 rfl rfl)
theorem dX6_eatenBy_13 : decode cX6_eatenBy 13 = .ok (.iconst 0, 1) := dk_3 (dk_at dksX6_eatenBy_0 13 rfl rfl)
theorem dX6_eatenBy_14 : decode cX6_eatenBy 14 = .ok (.istore_n 3, 1) := dk_62 (dk_at dksX6_eatenBy_0 14 rfl rfl)
theorem dX6_eatenBy_15 : decode cX6_eatenBy 15 = .ok (.iload_n 3, 1) := dk_29 (dk_at dksX6_eatenBy_0 15 rfl rfl)
theorem dX6_eatenBy_16 : decode cX6_eatenBy 16 = .ok (.aload_n 0, 1) := dk_42 (dk_at dksX6_eatenBy_0 16 rfl rfl)
theorem dX6_eatenBy_17 : decode cX6_eatenBy 17 = .ok (.getfield 7, 3) := dk_180 0 7 (dk_at dksX6_eatenBy_0 17 rfl rfl)
theorem dX6_eatenBy_20 : decode cX6_eatenBy 20 = .ok (.iconst 2, 1) := dk_5 (dk_at dksX6_eatenBy_0 20 rfl rfl)
theorem dX6_eatenBy_21 : decode cX6_eatenBy 21 = .ok (.iaload, 1) := dk_46 (dk_at dksX6_eatenBy_0 21 rfl rfl)
theorem dX6_eatenBy_22 : decode cX6_eatenBy 22 = .ok (.if_icmp .ge 44, 3) := dk_162 0 44 (dk_at dksX6_eatenBy_1 0 rfl rfl)
theorem dX6_eatenBy_25 : decode cX6_eatenBy 25 = .ok (.iload_n 2, 1) := dk_28 (dk_at dksX6_eatenBy_1 3 rfl rfl)
theorem dX6_eatenBy_26 : decode cX6_eatenBy 26 = .ok (.aload_n 0, 1) := dk_42 (dk_at dksX6_eatenBy_1 4 rfl rfl)
theorem dX6_eatenBy_27 : decode cX6_eatenBy 27 = .ok (.getfield 7, 3) := dk_180 0 7 (dk_at dksX6_eatenBy_1 5 rfl rfl)
theorem dX6_eatenBy_30 : decode cX6_eatenBy 30 = .ok (.bipush 60, 2) := dk_16 60 (dk_at dksX6_eatenBy_1 8 rfl rfl)
theorem dX6_eatenBy_32 : decode cX6_eatenBy 32 = .ok (.iconst 2, 1) := dk_5 (dk_at dksX6_eatenBy_1 10 rfl rfl)
theorem dX6_eatenBy_33 : decode cX6_eatenBy 33 = .ok (.iload_n 3, 1) := dk_29 (dk_at dksX6_eatenBy_1 11 rfl rfl)
theorem dX6_eatenBy_34 : decode cX6_eatenBy 34 = .ok (.imul, 1) := dk_104 (dk_at dksX6_eatenBy_1 12 rfl rfl)
theorem dX6_eatenBy_35 : decode cX6_eatenBy 35 = .ok (.iadd, 1) := dk_96 (dk_at dksX6_eatenBy_1 13 rfl rfl)
theorem dX6_eatenBy_36 : decode cX6_eatenBy 36 = .ok (.iconst 1, 1) := dk_4 (dk_at dksX6_eatenBy_1 14 rfl rfl)
theorem dX6_eatenBy_37 : decode cX6_eatenBy 37 = .ok (.iadd, 1) := dk_96 (dk_at dksX6_eatenBy_1 15 rfl rfl)
theorem dX6_eatenBy_38 : decode cX6_eatenBy 38 = .ok (.iaload, 1) := dk_46 (dk_at dksX6_eatenBy_1 16 rfl rfl)
theorem dX6_eatenBy_39 : decode cX6_eatenBy 39 = .ok (.iload_n 1, 1) := dk_27 (dk_at dksX6_eatenBy_1 17 rfl rfl)
theorem dX6_eatenBy_40 : decode cX6_eatenBy 40 = .ok (.if_icmp .ne 17, 3) := dk_160 0 17 (dk_at dksX6_eatenBy_1 18 rfl rfl)
theorem dX6_eatenBy_43 : decode cX6_eatenBy 43 = .ok (.aload_n 0, 1) := dk_42 (dk_at dksX6_eatenBy_1 21 rfl rfl)
theorem dX6_eatenBy_44 : decode cX6_eatenBy 44 = .ok (.getfield 7, 3) := dk_180 0 7 (dk_at dksX6_eatenBy_2 0 rfl rfl)
theorem dX6_eatenBy_47 : decode cX6_eatenBy 47 = .ok (.bipush 60, 2) := dk_16 60 (dk_at dksX6_eatenBy_2 3 rfl rfl)
theorem dX6_eatenBy_49 : decode cX6_eatenBy 49 = .ok (.iconst 2, 1) := dk_5 (dk_at dksX6_eatenBy_2 5 rfl rfl)
theorem dX6_eatenBy_50 : decode cX6_eatenBy 50 = .ok (.iload_n 3, 1) := dk_29 (dk_at dksX6_eatenBy_2 6 rfl rfl)
theorem dX6_eatenBy_51 : decode cX6_eatenBy 51 = .ok (.imul, 1) := dk_104 (dk_at dksX6_eatenBy_2 7 rfl rfl)
theorem dX6_eatenBy_52 : decode cX6_eatenBy 52 = .ok (.iadd, 1) := dk_96 (dk_at dksX6_eatenBy_2 8 rfl rfl)
theorem dX6_eatenBy_53 : decode cX6_eatenBy 53 = .ok (.iaload, 1) := dk_46 (dk_at dksX6_eatenBy_2 9 rfl rfl)
theorem dX6_eatenBy_54 : decode cX6_eatenBy 54 = .ok (.goto 4, 3) := dk_167 0 4 (dk_at dksX6_eatenBy_2 10 rfl rfl)
theorem dX6_eatenBy_57 : decode cX6_eatenBy 57 = .ok (.iconst 0, 1) := dk_3 (dk_at dksX6_eatenBy_2 13 rfl rfl)
theorem dX6_eatenBy_58 : decode cX6_eatenBy 58 = .ok (.iadd, 1) := dk_96 (dk_at dksX6_eatenBy_2 14 rfl rfl)
theorem dX6_eatenBy_59 : decode cX6_eatenBy 59 = .ok (.istore_n 2, 1) := dk_61 (dk_at dksX6_eatenBy_2 15 rfl rfl)
theorem dX6_eatenBy_60 : decode cX6_eatenBy 60 = .ok (.iinc 3 1, 3) := dk_132 3 1 (dk_at dksX6_eatenBy_2 16 rfl rfl)
theorem dX6_eatenBy_63 : decode cX6_eatenBy 63 = .ok (.goto (-48), 3) := dk_167 255 208 (dk_at dksX6_eatenBy_2 19 rfl rfl)
theorem dX6_eatenBy_66 : decode cX6_eatenBy 66 = .ok (.iload_n 2, 1) := dk_28 (dk_at dksX6_eatenBy_2 22 rfl rfl)
theorem dX6_eatenBy_67 : decode cX6_eatenBy 67 = .ok (.ireturn, 1) := dk_172 (dk_at dksX6_eatenBy_2 23 rfl rfl)
abbrev cX6_commons : ByteArray := prog_16_method_62_code
def yX6_commons : MethodName := ⟨RX6, "commons", "()I"⟩
def dkwX6_commons_2 : List UInt8 := [60, 132, 2, 1, 167, 255, 208, 27, 172]
abbrev dktX6_commons_2 : List UInt8 := dkwX6_commons_2 ++ []
def dkwX6_commons_1 : List UInt8 := [96, 4, 96, 46, 2, 160, 0, 17, 42, 180, 0, 7, 16, 60, 5, 28, 104, 96, 46, 167, 0, 4, 3, 96]
abbrev dktX6_commons_1 : List UInt8 := dkwX6_commons_1 ++ dktX6_commons_2
def dkwX6_commons_0 : List UInt8 := [3, 60, 3, 61, 28, 42, 180, 0, 7, 5, 46, 162, 0, 44, 27, 42, 180, 0, 7, 16, 60, 5, 28, 104]
abbrev dktX6_commons_0 : List UInt8 := dkwX6_commons_0 ++ dktX6_commons_1
theorem dksX6_commons_0 : cX6_commons.data.toList.drop 0 = dktX6_commons_0 := by decide +kernel
theorem dksX6_commons_1 : cX6_commons.data.toList.drop 24 = dktX6_commons_1 := dk_seg dksX6_commons_0 24 rfl rfl
theorem dksX6_commons_2 : cX6_commons.data.toList.drop 48 = dktX6_commons_2 := dk_seg dksX6_commons_1 24 rfl rfl
theorem dX6_commons_0 : decode cX6_commons 0 = .ok (.iconst 0, 1) := dk_3 (dk_at dksX6_commons_0 0 rfl rfl)
theorem dX6_commons_1 : decode cX6_commons 1 = .ok (.istore_n 1, 1) := dk_60 (dk_at dksX6_commons_0 1 rfl rfl)
theorem dX6_commons_2 : decode cX6_commons 2 = .ok (.iconst 0, 1) := dk_3 (dk_at dksX6_commons_0 2 rfl rfl)
theorem dX6_commons_3 : decode cX6_commons 3 = .ok (.istore_n 2, 1) := dk_61 (dk_at dksX6_commons_0 3 rfl rfl)
theorem dX6_commons_4 : decode cX6_commons 4 = .ok (.iload_n 2, 1) := dk_28 (dk_at dksX6_commons_0 4 rfl rfl)
theorem dX6_commons_5 : decode cX6_commons 5 = .ok (.aload_n 0, 1) := dk_42 (dk_at dksX6_commons_0 5 rfl rfl)
theorem dX6_commons_6 : decode cX6_commons 6 = .ok (.getfield 7, 3) := dk_180 0 7 (dk_at dksX6_commons_0 6 rfl rfl)
theorem dX6_commons_9 : decode cX6_commons 9 = .ok (.iconst 2, 1) := dk_5 (dk_at dksX6_commons_0 9 rfl rfl)
theorem dX6_commons_10 : decode cX6_commons 10 = .ok (.iaload, 1) := dk_46 (dk_at dksX6_commons_0 10 rfl rfl)
theorem dX6_commons_11 : decode cX6_commons 11 = .ok (.if_icmp .ge 44, 3) := dk_162 0 44 (dk_at dksX6_commons_0 11 rfl rfl)
theorem dX6_commons_14 : decode cX6_commons 14 = .ok (.iload_n 1, 1) := dk_27 (dk_at dksX6_commons_0 14 rfl rfl)
theorem dX6_commons_15 : decode cX6_commons 15 = .ok (.aload_n 0, 1) := dk_42 (dk_at dksX6_commons_0 15 rfl rfl)
theorem dX6_commons_16 : decode cX6_commons 16 = .ok (.getfield 7, 3) := dk_180 0 7 (dk_at dksX6_commons_0 16 rfl rfl)
theorem dX6_commons_19 : decode cX6_commons 19 = .ok (.bipush 60, 2) := dk_16 60 (dk_at dksX6_commons_0 19 rfl rfl)
theorem dX6_commons_21 : decode cX6_commons 21 = .ok (.iconst 2, 1) := dk_5 (dk_at dksX6_commons_0 21 rfl rfl)
theorem dX6_commons_22 : decode cX6_commons 22 = .ok (.iload_n 2, 1) := dk_28 (dk_at dksX6_commons_0 22 rfl rfl)
theorem dX6_commons_23 : decode cX6_commons 23 = .ok (.imul, 1) := dk_104 (dk_at dksX6_commons_0 23 rfl rfl)
theorem dX6_commons_24 : decode cX6_commons 24 = .ok (.iadd, 1) := dk_96 (dk_at dksX6_commons_1 0 rfl rfl)
theorem dX6_commons_25 : decode cX6_commons 25 = .ok (.iconst 1, 1) := dk_4 (dk_at dksX6_commons_1 1 rfl rfl)
theorem dX6_commons_26 : decode cX6_commons 26 = .ok (.iadd, 1) := dk_96 (dk_at dksX6_commons_1 2 rfl rfl)
theorem dX6_commons_27 : decode cX6_commons 27 = .ok (.iaload, 1) := dk_46 (dk_at dksX6_commons_1 3 rfl rfl)
theorem dX6_commons_28 : decode cX6_commons 28 = .ok (.iconst (-1), 1) := dk_2 (dk_at dksX6_commons_1 4 rfl rfl)
theorem dX6_commons_29 : decode cX6_commons 29 = .ok (.if_icmp .ne 17, 3) := dk_160 0 17 (dk_at dksX6_commons_1 5 rfl rfl)
theorem dX6_commons_32 : decode cX6_commons 32 = .ok (.aload_n 0, 1) := dk_42 (dk_at dksX6_commons_1 8 rfl rfl)
theorem dX6_commons_33 : decode cX6_commons 33 = .ok (.getfield 7, 3) := dk_180 0 7 (dk_at dksX6_commons_1 9 rfl rfl)
theorem dX6_commons_36 : decode cX6_commons 36 = .ok (.bipush 60, 2) := dk_16 60 (dk_at dksX6_commons_1 12 rfl rfl)
theorem dX6_commons_38 : decode cX6_commons 38 = .ok (.iconst 2, 1) := dk_5 (dk_at dksX6_commons_1 14 rfl rfl)
theorem dX6_commons_39 : decode cX6_commons 39 = .ok (.iload_n 2, 1) := dk_28 (dk_at dksX6_commons_1 15 rfl rfl)
theorem dX6_commons_40 : decode cX6_commons 40 = .ok (.imul, 1) := dk_104 (dk_at dksX6_commons_1 16 rfl rfl)
theorem dX6_commons_41 : decode cX6_commons 41 = .ok (.iadd, 1) := dk_96 (dk_at dksX6_commons_1 17 rfl rfl)
theorem dX6_commons_42 : decode cX6_commons 42 = .ok (.iaload, 1) := dk_46 (dk_at dksX6_commons_1 18 rfl rfl)
theorem dX6_commons_43 : decode cX6_commons 43 = .ok (.goto 4, 3) := dk_167 0 4 (dk_at dksX6_commons_1 19 rfl rfl)
theorem dX6_commons_46 : decode cX6_commons 46 = .ok (.iconst 0, 1) := dk_3 (dk_at dksX6_commons_1 22 rfl rfl)
theorem dX6_commons_47 : decode cX6_commons 47 = .ok (.iadd, 1) := dk_96 (dk_at dksX6_commons_1 23 rfl rfl)
theorem dX6_commons_48 : decode cX6_commons 48 = .ok (.istore_n 1, 1) := dk_60 (dk_at dksX6_commons_2 0 rfl rfl)
theorem dX6_commons_49 : decode cX6_commons 49 = .ok (.iinc 2 1, 3) := dk_132 2 1 (dk_at dksX6_commons_2 1 rfl rfl)
theorem dX6_commons_52 : decode cX6_commons 52 = .ok (.goto (-48), 3) := dk_167 255 208 (dk_at dksX6_commons_2 4 rfl rfl)
theorem dX6_commons_55 : decode cX6_commons 55 = .ok (.iload_n 1, 1) := dk_27 (dk_at dksX6_commons_2 7 rfl rfl)
theorem dX6_commons_56 : decode cX6_commons 56 = .ok (.ireturn, 1) := dk_172 (dk_at dksX6_commons_2 8 rfl rfl)
abbrev cX6_partOf : ByteArray := prog_16_method_63_code
def yX6_partOf : MethodName := ⟨RX6, "partOf", "(III)I"⟩
def dkwX6_partOf_1 : List UInt8 := [184, 0, 254, 108, 29, 26, 27, 184, 0, 254, 112, 162, 0, 7, 4, 167, 0, 4, 3, 96, 172]
abbrev dktX6_partOf_1 : List UInt8 := dkwX6_partOf_1 ++ []
def dkwX6_partOf_0 : List UInt8 := [27, 28, 122, 4, 126, 154, 0, 5, 3, 172, 27, 4, 28, 120, 4, 100, 126, 184, 0, 254, 62, 26, 27]
abbrev dktX6_partOf_0 : List UInt8 := dkwX6_partOf_0 ++ dktX6_partOf_1
theorem dksX6_partOf_0 : cX6_partOf.data.toList.drop 0 = dktX6_partOf_0 := by decide +kernel
theorem dksX6_partOf_1 : cX6_partOf.data.toList.drop 23 = dktX6_partOf_1 := dk_seg dksX6_partOf_0 23 rfl rfl
theorem dX6_partOf_0 : decode cX6_partOf 0 = .ok (.iload_n 1, 1) := dk_27 (dk_at dksX6_partOf_0 0 rfl rfl)
theorem dX6_partOf_1 : decode cX6_partOf 1 = .ok (.iload_n 2, 1) := dk_28 (dk_at dksX6_partOf_0 1 rfl rfl)
theorem dX6_partOf_2 : decode cX6_partOf 2 = .ok (.ishr, 1) := dk_122 (dk_at dksX6_partOf_0 2 rfl rfl)
theorem dX6_partOf_3 : decode cX6_partOf 3 = .ok (.iconst 1, 1) := dk_4 (dk_at dksX6_partOf_0 3 rfl rfl)
theorem dX6_partOf_4 : decode cX6_partOf 4 = .ok (.iand, 1) := dk_126 (dk_at dksX6_partOf_0 4 rfl rfl)
theorem dX6_partOf_5 : decode cX6_partOf 5 = .ok (.ifCond .ne 5, 3) := dk_154 0 5 (dk_at dksX6_partOf_0 5 rfl rfl)
theorem dX6_partOf_8 : decode cX6_partOf 8 = .ok (.iconst 0, 1) := dk_3 (dk_at dksX6_partOf_0 8 rfl rfl)
theorem dX6_partOf_9 : decode cX6_partOf 9 = .ok (.ireturn, 1) := dk_172 (dk_at dksX6_partOf_0 9 rfl rfl)
theorem dX6_partOf_10 : decode cX6_partOf 10 = .ok (.iload_n 1, 1) := dk_27 (dk_at dksX6_partOf_0 10 rfl rfl)
theorem dX6_partOf_11 : decode cX6_partOf 11 = .ok (.iconst 1, 1) := dk_4 (dk_at dksX6_partOf_0 11 rfl rfl)
theorem dX6_partOf_12 : decode cX6_partOf 12 = .ok (.iload_n 2, 1) := dk_28 (dk_at dksX6_partOf_0 12 rfl rfl)
theorem dX6_partOf_13 : decode cX6_partOf 13 = .ok (.ishl, 1) := dk_120 (dk_at dksX6_partOf_0 13 rfl rfl)
theorem dX6_partOf_14 : decode cX6_partOf 14 = .ok (.iconst 1, 1) := dk_4 (dk_at dksX6_partOf_0 14 rfl rfl)
theorem dX6_partOf_15 : decode cX6_partOf 15 = .ok (.isub, 1) := dk_100 (dk_at dksX6_partOf_0 15 rfl rfl)
theorem dX6_partOf_16 : decode cX6_partOf 16 = .ok (.iand, 1) := dk_126 (dk_at dksX6_partOf_0 16 rfl rfl)
theorem dX6_partOf_17 : decode cX6_partOf 17 = .ok (.invokestatic 254, 3) := dk_184 0 254 (dk_at dksX6_partOf_0 17 rfl rfl)
theorem dX6_partOf_20 : decode cX6_partOf 20 = .ok (.istore_n 3, 1) := dk_62 (dk_at dksX6_partOf_0 20 rfl rfl)
theorem dX6_partOf_21 : decode cX6_partOf 21 = .ok (.iload_n 0, 1) := dk_26 (dk_at dksX6_partOf_0 21 rfl rfl)
theorem dX6_partOf_22 : decode cX6_partOf 22 = .ok (.iload_n 1, 1) := dk_27 (dk_at dksX6_partOf_0 22 rfl rfl)
theorem dX6_partOf_23 : decode cX6_partOf 23 = .ok (.invokestatic 254, 3) := dk_184 0 254 (dk_at dksX6_partOf_1 0 rfl rfl)
theorem dX6_partOf_26 : decode cX6_partOf 26 = .ok (.idiv, 1) := dk_108 (dk_at dksX6_partOf_1 3 rfl rfl)
theorem dX6_partOf_27 : decode cX6_partOf 27 = .ok (.iload_n 3, 1) := dk_29 (dk_at dksX6_partOf_1 4 rfl rfl)
theorem dX6_partOf_28 : decode cX6_partOf 28 = .ok (.iload_n 0, 1) := dk_26 (dk_at dksX6_partOf_1 5 rfl rfl)
theorem dX6_partOf_29 : decode cX6_partOf 29 = .ok (.iload_n 1, 1) := dk_27 (dk_at dksX6_partOf_1 6 rfl rfl)
theorem dX6_partOf_30 : decode cX6_partOf 30 = .ok (.invokestatic 254, 3) := dk_184 0 254 (dk_at dksX6_partOf_1 7 rfl rfl)
theorem dX6_partOf_33 : decode cX6_partOf 33 = .ok (.irem, 1) := dk_112 (dk_at dksX6_partOf_1 10 rfl rfl)
theorem dX6_partOf_34 : decode cX6_partOf 34 = .ok (.if_icmp .ge 7, 3) := dk_162 0 7 (dk_at dksX6_partOf_1 11 rfl rfl)
theorem dX6_partOf_37 : decode cX6_partOf 37 = .ok (.iconst 1, 1) := dk_4 (dk_at dksX6_partOf_1 14 rfl rfl)
theorem dX6_partOf_38 : decode cX6_partOf 38 = .ok (.goto 4, 3) := dk_167 0 4 (dk_at dksX6_partOf_1 15 rfl rfl)
theorem dX6_partOf_41 : decode cX6_partOf 41 = .ok (.iconst 0, 1) := dk_3 (dk_at dksX6_partOf_1 18 rfl rfl)
theorem dX6_partOf_42 : decode cX6_partOf 42 = .ok (.iadd, 1) := dk_96 (dk_at dksX6_partOf_1 19 rfl rfl)
theorem dX6_partOf_43 : decode cX6_partOf 43 = .ok (.ireturn, 1) := dk_172 (dk_at dksX6_partOf_1 20 rfl rfl)
abbrev cX6_due : ByteArray := prog_16_method_74_code
def yX6_due : MethodName := ⟨RX6, "due", "(II)I"⟩
def dkwX6_due_1 : List UInt8 := [182, 0, 79, 167, 0, 8, 42, 4, 182, 0, 75, 172]
abbrev dktX6_due_1 : List UInt8 := dkwX6_due_1 ++ []
def dkwX6_due_0 : List UInt8 := [42, 27, 182, 0, 248, 153, 0, 23, 28, 184, 1, 38, 153, 0, 16, 42, 42, 27, 28, 182, 1, 26]
abbrev dktX6_due_0 : List UInt8 := dkwX6_due_0 ++ dktX6_due_1
theorem dksX6_due_0 : cX6_due.data.toList.drop 0 = dktX6_due_0 := by decide +kernel
theorem dksX6_due_1 : cX6_due.data.toList.drop 22 = dktX6_due_1 := dk_seg dksX6_due_0 22 rfl rfl
theorem dX6_due_0 : decode cX6_due 0 = .ok (.aload_n 0, 1) := dk_42 (dk_at dksX6_due_0 0 rfl rfl)
theorem dX6_due_1 : decode cX6_due 1 = .ok (.iload_n 1, 1) := dk_27 (dk_at dksX6_due_0 1 rfl rfl)
theorem dX6_due_2 : decode cX6_due 2 = .ok (.invokevirtual 248, 3) := dk_182 0 248 (dk_at dksX6_due_0 2 rfl rfl)
theorem dX6_due_5 : decode cX6_due 5 = .ok (.ifCond .eq 23, 3) := dk_153 0 23 (dk_at dksX6_due_0 5 rfl rfl)
theorem dX6_due_8 : decode cX6_due 8 = .ok (.iload_n 2, 1) := dk_28 (dk_at dksX6_due_0 8 rfl rfl)
theorem dX6_due_9 : decode cX6_due 9 = .ok (.invokestatic 294, 3) := dk_184 1 38 (dk_at dksX6_due_0 9 rfl rfl)
theorem dX6_due_12 : decode cX6_due 12 = .ok (.ifCond .eq 16, 3) := dk_153 0 16 (dk_at dksX6_due_0 12 rfl rfl)
theorem dX6_due_15 : decode cX6_due 15 = .ok (.aload_n 0, 1) := dk_42 (dk_at dksX6_due_0 15 rfl rfl)
theorem dX6_due_16 : decode cX6_due 16 = .ok (.aload_n 0, 1) := dk_42 (dk_at dksX6_due_0 16 rfl rfl)
theorem dX6_due_17 : decode cX6_due 17 = .ok (.iload_n 1, 1) := dk_27 (dk_at dksX6_due_0 17 rfl rfl)
theorem dX6_due_18 : decode cX6_due 18 = .ok (.iload_n 2, 1) := dk_28 (dk_at dksX6_due_0 18 rfl rfl)
theorem dX6_due_19 : decode cX6_due 19 = .ok (.invokevirtual 282, 3) := dk_182 1 26 (dk_at dksX6_due_0 19 rfl rfl)
theorem dX6_due_22 : decode cX6_due 22 = .ok (.invokevirtual 79, 3) := dk_182 0 79 (dk_at dksX6_due_1 0 rfl rfl)
theorem dX6_due_25 : decode cX6_due 25 = .ok (.goto 8, 3) := dk_167 0 8 (dk_at dksX6_due_1 3 rfl rfl)
theorem dX6_due_28 : decode cX6_due 28 = .ok (.aload_n 0, 1) := dk_42 (dk_at dksX6_due_1 6 rfl rfl)
theorem dX6_due_29 : decode cX6_due 29 = .ok (.iconst 1, 1) := dk_4 (dk_at dksX6_due_1 7 rfl rfl)
theorem dX6_due_30 : decode cX6_due 30 = .ok (.invokevirtual 75, 3) := dk_182 0 75 (dk_at dksX6_due_1 8 rfl rfl)
theorem dX6_due_33 : decode cX6_due 33 = .ok (.ireturn, 1) := dk_172 (dk_at dksX6_due_1 11 rfl rfl)
abbrev cX6_isSplit : ByteArray := prog_16_method_73_code
def yX6_isSplit : MethodName := ⟨RX6, "isSplit", "(I)Z"⟩
def dkwX6_isSplit_0 : List UInt8 := [26, 155, 0, 12, 26, 5, 163, 0, 7, 4, 167, 0, 4, 3, 172]
abbrev dktX6_isSplit_0 : List UInt8 := dkwX6_isSplit_0 ++ []
theorem dksX6_isSplit_0 : cX6_isSplit.data.toList.drop 0 = dktX6_isSplit_0 := by decide +kernel
theorem dX6_isSplit_0 : decode cX6_isSplit 0 = .ok (.iload_n 0, 1) := dk_26 (dk_at dksX6_isSplit_0 0 rfl rfl)
theorem dX6_isSplit_1 : decode cX6_isSplit 1 = .ok (.ifCond .lt 12, 3) := dk_155 0 12 (dk_at dksX6_isSplit_0 1 rfl rfl)
theorem dX6_isSplit_4 : decode cX6_isSplit 4 = .ok (.iload_n 0, 1) := dk_26 (dk_at dksX6_isSplit_0 4 rfl rfl)
theorem dX6_isSplit_5 : decode cX6_isSplit 5 = .ok (.iconst 2, 1) := dk_5 (dk_at dksX6_isSplit_0 5 rfl rfl)
theorem dX6_isSplit_6 : decode cX6_isSplit 6 = .ok (.if_icmp .gt 7, 3) := dk_163 0 7 (dk_at dksX6_isSplit_0 6 rfl rfl)
theorem dX6_isSplit_9 : decode cX6_isSplit 9 = .ok (.iconst 1, 1) := dk_4 (dk_at dksX6_isSplit_0 9 rfl rfl)
theorem dX6_isSplit_10 : decode cX6_isSplit 10 = .ok (.goto 4, 3) := dk_167 0 4 (dk_at dksX6_isSplit_0 10 rfl rfl)
theorem dX6_isSplit_13 : decode cX6_isSplit 13 = .ok (.iconst 0, 1) := dk_3 (dk_at dksX6_isSplit_0 13 rfl rfl)
theorem dX6_isSplit_14 : decode cX6_isSplit 14 = .ok (.ireturn, 1) := dk_172 (dk_at dksX6_isSplit_0 14 rfl rfl)
abbrev cX6_dueBy : ByteArray := prog_16_method_66_code
def yX6_dueBy : MethodName := ⟨RX6, "dueBy", "(II)I"⟩
def dkwX6_dueBy_4 : List UInt8 := [153, 0, 21, 42, 27, 182, 1, 23, 29, 42, 182, 1, 8, 27, 184, 1, 4, 96, 167, 0, 4, 3, 172]
abbrev dktX6_dueBy_4 : List UInt8 := dkwX6_dueBy_4 ++ []
def dkwX6_dueBy_3 : List UInt8 := [21, 4, 182, 1, 23, 96, 62, 132, 4, 1, 167, 255, 216, 42, 42, 182, 1, 8, 27, 182, 1, 14]
abbrev dktX6_dueBy_3 : List UInt8 := dkwX6_dueBy_3 ++ dktX6_dueBy_4
def dkwX6_dueBy_2 : List UInt8 := [46, 162, 0, 35, 29, 42, 42, 182, 1, 8, 21, 4, 182, 1, 14, 153, 0, 7, 3, 167, 0, 9, 42]
abbrev dktX6_dueBy_2 : List UInt8 := dkwX6_dueBy_2 ++ dktX6_dueBy_3
def dkwX6_dueBy_1 : List UInt8 := [182, 1, 17, 42, 182, 1, 20, 27, 184, 1, 4, 172, 3, 62, 3, 54, 4, 21, 4, 42, 180, 0, 7, 3]
abbrev dktX6_dueBy_1 : List UInt8 := dkwX6_dueBy_1 ++ dktX6_dueBy_2
def dkwX6_dueBy_0 : List UInt8 := [28, 154, 0, 16, 42, 182, 1, 17, 42, 182, 1, 8, 27, 184, 1, 4, 172, 28, 5, 160, 0, 16, 42]
abbrev dktX6_dueBy_0 : List UInt8 := dkwX6_dueBy_0 ++ dktX6_dueBy_1
theorem dksX6_dueBy_0 : cX6_dueBy.data.toList.drop 0 = dktX6_dueBy_0 := by decide +kernel
theorem dksX6_dueBy_1 : cX6_dueBy.data.toList.drop 23 = dktX6_dueBy_1 := dk_seg dksX6_dueBy_0 23 rfl rfl
theorem dksX6_dueBy_2 : cX6_dueBy.data.toList.drop 47 = dktX6_dueBy_2 := dk_seg dksX6_dueBy_1 24 rfl rfl
theorem dksX6_dueBy_3 : cX6_dueBy.data.toList.drop 70 = dktX6_dueBy_3 := dk_seg dksX6_dueBy_2 23 rfl rfl
theorem dksX6_dueBy_4 : cX6_dueBy.data.toList.drop 92 = dktX6_dueBy_4 := dk_seg dksX6_dueBy_3 22 rfl rfl
theorem dX6_dueBy_0 : decode cX6_dueBy 0 = .ok (.iload_n 2, 1) := dk_28 (dk_at dksX6_dueBy_0 0 rfl rfl)
theorem dX6_dueBy_1 : decode cX6_dueBy 1 = .ok (.ifCond .ne 16, 3) := dk_154 0 16 (dk_at dksX6_dueBy_0 1 rfl rfl)
theorem dX6_dueBy_4 : decode cX6_dueBy 4 = .ok (.aload_n 0, 1) := dk_42 (dk_at dksX6_dueBy_0 4 rfl rfl)
theorem dX6_dueBy_5 : decode cX6_dueBy 5 = .ok (.invokevirtual 273, 3) := dk_182 1 17 (dk_at dksX6_dueBy_0 5 rfl rfl)
theorem dX6_dueBy_8 : decode cX6_dueBy 8 = .ok (.aload_n 0, 1) := dk_42 (dk_at dksX6_dueBy_0 8 rfl rfl)
theorem dX6_dueBy_9 : decode cX6_dueBy 9 = .ok (.invokevirtual 264, 3) := dk_182 1 8 (dk_at dksX6_dueBy_0 9 rfl rfl)
theorem dX6_dueBy_12 : decode cX6_dueBy 12 = .ok (.iload_n 1, 1) := dk_27 (dk_at dksX6_dueBy_0 12 rfl rfl)
theorem dX6_dueBy_13 : decode cX6_dueBy 13 = .ok (.invokestatic 260, 3) := dk_184 1 4 (dk_at dksX6_dueBy_0 13 rfl rfl)
theorem dX6_dueBy_16 : decode cX6_dueBy 16 = .ok (.ireturn, 1) := dk_172 (dk_at dksX6_dueBy_0 16 rfl rfl)
theorem dX6_dueBy_17 : decode cX6_dueBy 17 = .ok (.iload_n 2, 1) := dk_28 (dk_at dksX6_dueBy_0 17 rfl rfl)
theorem dX6_dueBy_18 : decode cX6_dueBy 18 = .ok (.iconst 2, 1) := dk_5 (dk_at dksX6_dueBy_0 18 rfl rfl)
theorem dX6_dueBy_19 : decode cX6_dueBy 19 = .ok (.if_icmp .ne 16, 3) := dk_160 0 16 (dk_at dksX6_dueBy_0 19 rfl rfl)
theorem dX6_dueBy_22 : decode cX6_dueBy 22 = .ok (.aload_n 0, 1) := dk_42 (dk_at dksX6_dueBy_0 22 rfl rfl)
theorem dX6_dueBy_23 : decode cX6_dueBy 23 = .ok (.invokevirtual 273, 3) := dk_182 1 17 (dk_at dksX6_dueBy_1 0 rfl rfl)
theorem dX6_dueBy_26 : decode cX6_dueBy 26 = .ok (.aload_n 0, 1) := dk_42 (dk_at dksX6_dueBy_1 3 rfl rfl)
theorem dX6_dueBy_27 : decode cX6_dueBy 27 = .ok (.invokevirtual 276, 3) := dk_182 1 20 (dk_at dksX6_dueBy_1 4 rfl rfl)
theorem dX6_dueBy_30 : decode cX6_dueBy 30 = .ok (.iload_n 1, 1) := dk_27 (dk_at dksX6_dueBy_1 7 rfl rfl)
theorem dX6_dueBy_31 : decode cX6_dueBy 31 = .ok (.invokestatic 260, 3) := dk_184 1 4 (dk_at dksX6_dueBy_1 8 rfl rfl)
theorem dX6_dueBy_34 : decode cX6_dueBy 34 = .ok (.ireturn, 1) := dk_172 (dk_at dksX6_dueBy_1 11 rfl rfl)
theorem dX6_dueBy_35 : decode cX6_dueBy 35 = .ok (.iconst 0, 1) := dk_3 (dk_at dksX6_dueBy_1 12 rfl rfl)
theorem dX6_dueBy_36 : decode cX6_dueBy 36 = .ok (.istore_n 3, 1) := dk_62 (dk_at dksX6_dueBy_1 13 rfl rfl)
theorem dX6_dueBy_37 : decode cX6_dueBy 37 = .ok (.iconst 0, 1) := dk_3 (dk_at dksX6_dueBy_1 14 rfl rfl)
theorem dX6_dueBy_38 : decode cX6_dueBy 38 = .ok (.istore 4, 2) := dk_54 4 (dk_at dksX6_dueBy_1 15 rfl rfl)
theorem dX6_dueBy_40 : decode cX6_dueBy 40 = .ok (.iload 4, 2) := dk_21 4 (dk_at dksX6_dueBy_1 17 rfl rfl)
theorem dX6_dueBy_42 : decode cX6_dueBy 42 = .ok (.aload_n 0, 1) := dk_42 (dk_at dksX6_dueBy_1 19 rfl rfl)
theorem dX6_dueBy_43 : decode cX6_dueBy 43 = .ok (.getfield 7, 3) := dk_180 0 7 (dk_at dksX6_dueBy_1 20 rfl rfl)
theorem dX6_dueBy_46 : decode cX6_dueBy 46 = .ok (.iconst 0, 1) := dk_3 (dk_at dksX6_dueBy_1 23 rfl rfl)
theorem dX6_dueBy_47 : decode cX6_dueBy 47 = .ok (.iaload, 1) := dk_46 (dk_at dksX6_dueBy_2 0 rfl rfl)
theorem dX6_dueBy_48 : decode cX6_dueBy 48 = .ok (.if_icmp .ge 35, 3) := dk_162 0 35 (dk_at dksX6_dueBy_2 1 rfl rfl)
theorem dX6_dueBy_51 : decode cX6_dueBy 51 = .ok (.iload_n 3, 1) := dk_29 (dk_at dksX6_dueBy_2 4 rfl rfl)
theorem dX6_dueBy_52 : decode cX6_dueBy 52 = .ok (.aload_n 0, 1) := dk_42 (dk_at dksX6_dueBy_2 5 rfl rfl)
theorem dX6_dueBy_53 : decode cX6_dueBy 53 = .ok (.aload_n 0, 1) := dk_42 (dk_at dksX6_dueBy_2 6 rfl rfl)
theorem dX6_dueBy_54 : decode cX6_dueBy 54 = .ok (.invokevirtual 264, 3) := dk_182 1 8 (dk_at dksX6_dueBy_2 7 rfl rfl)
theorem dX6_dueBy_57 : decode cX6_dueBy 57 = .ok (.iload 4, 2) := dk_21 4 (dk_at dksX6_dueBy_2 10 rfl rfl)
theorem dX6_dueBy_59 : decode cX6_dueBy 59 = .ok (.invokevirtual 270, 3) := dk_182 1 14 (dk_at dksX6_dueBy_2 12 rfl rfl)
theorem dX6_dueBy_62 : decode cX6_dueBy 62 = .ok (.ifCond .eq 7, 3) := dk_153 0 7 (dk_at dksX6_dueBy_2 15 rfl rfl)
theorem dX6_dueBy_65 : decode cX6_dueBy 65 = .ok (.iconst 0, 1) := dk_3 (dk_at dksX6_dueBy_2 18 rfl rfl)
theorem dX6_dueBy_66 : decode cX6_dueBy 66 = .ok (.goto 9, 3) := dk_167 0 9 (dk_at dksX6_dueBy_2 19 rfl rfl)
theorem dX6_dueBy_69 : decode cX6_dueBy 69 = .ok (.aload_n 0, 1) := dk_42 (dk_at dksX6_dueBy_2 22 rfl rfl)
theorem dX6_dueBy_70 : decode cX6_dueBy 70 = .ok (.iload 4, 2) := dk_21 4 (dk_at dksX6_dueBy_3 0 rfl rfl)
theorem dX6_dueBy_72 : decode cX6_dueBy 72 = .ok (.invokevirtual 279, 3) := dk_182 1 23 (dk_at dksX6_dueBy_3 2 rfl rfl)
theorem dX6_dueBy_75 : decode cX6_dueBy 75 = .ok (.iadd, 1) := dk_96 (dk_at dksX6_dueBy_3 5 rfl rfl)
theorem dX6_dueBy_76 : decode cX6_dueBy 76 = .ok (.istore_n 3, 1) := dk_62 (dk_at dksX6_dueBy_3 6 rfl rfl)
theorem dX6_dueBy_77 : decode cX6_dueBy 77 = .ok (.iinc 4 1, 3) := dk_132 4 1 (dk_at dksX6_dueBy_3 7 rfl rfl)
theorem dX6_dueBy_80 : decode cX6_dueBy 80 = .ok (.goto (-40), 3) := dk_167 255 216 (dk_at dksX6_dueBy_3 10 rfl rfl)
theorem dX6_dueBy_83 : decode cX6_dueBy 83 = .ok (.aload_n 0, 1) := dk_42 (dk_at dksX6_dueBy_3 13 rfl rfl)
theorem dX6_dueBy_84 : decode cX6_dueBy 84 = .ok (.aload_n 0, 1) := dk_42 (dk_at dksX6_dueBy_3 14 rfl rfl)
theorem dX6_dueBy_85 : decode cX6_dueBy 85 = .ok (.invokevirtual 264, 3) := dk_182 1 8 (dk_at dksX6_dueBy_3 15 rfl rfl)
theorem dX6_dueBy_88 : decode cX6_dueBy 88 = .ok (.iload_n 1, 1) := dk_27 (dk_at dksX6_dueBy_3 18 rfl rfl)
theorem dX6_dueBy_89 : decode cX6_dueBy 89 = .ok (.invokevirtual 270, 3) := dk_182 1 14 (dk_at dksX6_dueBy_3 19 rfl rfl)
theorem dX6_dueBy_92 : decode cX6_dueBy 92 = .ok (.ifCond .eq 21, 3) := dk_153 0 21 (dk_at dksX6_dueBy_4 0 rfl rfl)
theorem dX6_dueBy_95 : decode cX6_dueBy 95 = .ok (.aload_n 0, 1) := dk_42 (dk_at dksX6_dueBy_4 3 rfl rfl)
theorem dX6_dueBy_96 : decode cX6_dueBy 96 = .ok (.iload_n 1, 1) := dk_27 (dk_at dksX6_dueBy_4 4 rfl rfl)
theorem dX6_dueBy_97 : decode cX6_dueBy 97 = .ok (.invokevirtual 279, 3) := dk_182 1 23 (dk_at dksX6_dueBy_4 5 rfl rfl)
theorem dX6_dueBy_100 : decode cX6_dueBy 100 = .ok (.iload_n 3, 1) := dk_29 (dk_at dksX6_dueBy_4 8 rfl rfl)
theorem dX6_dueBy_101 : decode cX6_dueBy 101 = .ok (.aload_n 0, 1) := dk_42 (dk_at dksX6_dueBy_4 9 rfl rfl)
theorem dX6_dueBy_102 : decode cX6_dueBy 102 = .ok (.invokevirtual 264, 3) := dk_182 1 8 (dk_at dksX6_dueBy_4 10 rfl rfl)
theorem dX6_dueBy_105 : decode cX6_dueBy 105 = .ok (.iload_n 1, 1) := dk_27 (dk_at dksX6_dueBy_4 13 rfl rfl)
theorem dX6_dueBy_106 : decode cX6_dueBy 106 = .ok (.invokestatic 260, 3) := dk_184 1 4 (dk_at dksX6_dueBy_4 14 rfl rfl)
theorem dX6_dueBy_109 : decode cX6_dueBy 109 = .ok (.iadd, 1) := dk_96 (dk_at dksX6_dueBy_4 17 rfl rfl)
theorem dX6_dueBy_110 : decode cX6_dueBy 110 = .ok (.goto 4, 3) := dk_167 0 4 (dk_at dksX6_dueBy_4 18 rfl rfl)
theorem dX6_dueBy_113 : decode cX6_dueBy 113 = .ok (.iconst 0, 1) := dk_3 (dk_at dksX6_dueBy_4 21 rfl rfl)
theorem dX6_dueBy_114 : decode cX6_dueBy 114 = .ok (.ireturn, 1) := dk_172 (dk_at dksX6_dueBy_4 22 rfl rfl)
abbrev cX6_units : ByteArray := prog_16_method_65_code
def yX6_units : MethodName := ⟨RX6, "units", "()I"⟩
def dkwX6_units_3 : List UInt8 := [126, 60, 132, 2, 1, 167, 255, 189, 27, 172]
abbrev dktX6_units_3 : List UInt8 := dkwX6_units_3 ++ []
def dkwX6_units_2 : List UInt8 := [182, 1, 14, 153, 0, 23, 42, 42, 182, 1, 8, 29, 182, 1, 14, 153, 0, 11, 27, 4, 28, 120, 2, 130]
abbrev dktX6_units_2 : List UInt8 := dkwX6_units_2 ++ dktX6_units_3
def dkwX6_units_1 : List UInt8 := [184, 1, 11, 7, 96, 46, 62, 29, 2, 159, 0, 40, 29, 28, 162, 0, 35, 42, 42, 182, 1, 8, 28]
abbrev dktX6_units_1 : List UInt8 := dkwX6_units_1 ++ dktX6_units_2
def dkwX6_units_0 : List UInt8 := [42, 182, 1, 8, 60, 3, 61, 28, 42, 180, 0, 7, 3, 46, 162, 0, 63, 42, 180, 0, 7, 28]
abbrev dktX6_units_0 : List UInt8 := dkwX6_units_0 ++ dktX6_units_1
theorem dksX6_units_0 : cX6_units.data.toList.drop 0 = dktX6_units_0 := by decide +kernel
theorem dksX6_units_1 : cX6_units.data.toList.drop 22 = dktX6_units_1 := dk_seg dksX6_units_0 22 rfl rfl
theorem dksX6_units_2 : cX6_units.data.toList.drop 45 = dktX6_units_2 := dk_seg dksX6_units_1 23 rfl rfl
theorem dksX6_units_3 : cX6_units.data.toList.drop 69 = dktX6_units_3 := dk_seg dksX6_units_2 24 rfl rfl
theorem dX6_units_0 : decode cX6_units 0 = .ok (.aload_n 0, 1) := dk_42 (dk_at dksX6_units_0 0 rfl rfl)
theorem dX6_units_1 : decode cX6_units 1 = .ok (.invokevirtual 264, 3) := dk_182 1 8 (dk_at dksX6_units_0 1 rfl rfl)
theorem dX6_units_4 : decode cX6_units 4 = .ok (.istore_n 1, 1) := dk_60 (dk_at dksX6_units_0 4 rfl rfl)
theorem dX6_units_5 : decode cX6_units 5 = .ok (.iconst 0, 1) := dk_3 (dk_at dksX6_units_0 5 rfl rfl)
theorem dX6_units_6 : decode cX6_units 6 = .ok (.istore_n 2, 1) := dk_61 (dk_at dksX6_units_0 6 rfl rfl)
theorem dX6_units_7 : decode cX6_units 7 = .ok (.iload_n 2, 1) := dk_28 (dk_at dksX6_units_0 7 rfl rfl)
theorem dX6_units_8 : decode cX6_units 8 = .ok (.aload_n 0, 1) := dk_42 (dk_at dksX6_units_0 8 rfl rfl)
theorem dX6_units_9 : decode cX6_units 9 = .ok (.getfield 7, 3) := dk_180 0 7 (dk_at dksX6_units_0 9 rfl rfl)
theorem dX6_units_12 : decode cX6_units 12 = .ok (.iconst 0, 1) := dk_3 (dk_at dksX6_units_0 12 rfl rfl)
theorem dX6_units_13 : decode cX6_units 13 = .ok (.iaload, 1) := dk_46 (dk_at dksX6_units_0 13 rfl rfl)
theorem dX6_units_14 : decode cX6_units 14 = .ok (.if_icmp .ge 63, 3) := dk_162 0 63 (dk_at dksX6_units_0 14 rfl rfl)
theorem dX6_units_17 : decode cX6_units 17 = .ok (.aload_n 0, 1) := dk_42 (dk_at dksX6_units_0 17 rfl rfl)
theorem dX6_units_18 : decode cX6_units 18 = .ok (.getfield 7, 3) := dk_180 0 7 (dk_at dksX6_units_0 18 rfl rfl)
theorem dX6_units_21 : decode cX6_units 21 = .ok (.iload_n 2, 1) := dk_28 (dk_at dksX6_units_0 21 rfl rfl)
theorem dX6_units_22 : decode cX6_units 22 = .ok (.invokestatic 267, 3) := dk_184 1 11 (dk_at dksX6_units_1 0 rfl rfl)
theorem dX6_units_25 : decode cX6_units 25 = .ok (.iconst 4, 1) := dk_7 (dk_at dksX6_units_1 3 rfl rfl)
theorem dX6_units_26 : decode cX6_units 26 = .ok (.iadd, 1) := dk_96 (dk_at dksX6_units_1 4 rfl rfl)
theorem dX6_units_27 : decode cX6_units 27 = .ok (.iaload, 1) := dk_46 (dk_at dksX6_units_1 5 rfl rfl)
theorem dX6_units_28 : decode cX6_units 28 = .ok (.istore_n 3, 1) := dk_62 (dk_at dksX6_units_1 6 rfl rfl)
theorem dX6_units_29 : decode cX6_units 29 = .ok (.iload_n 3, 1) := dk_29 (dk_at dksX6_units_1 7 rfl rfl)
theorem dX6_units_30 : decode cX6_units 30 = .ok (.iconst (-1), 1) := dk_2 (dk_at dksX6_units_1 8 rfl rfl)
theorem dX6_units_31 : decode cX6_units 31 = .ok (.if_icmp .eq 40, 3) := dk_159 0 40 (dk_at dksX6_units_1 9 rfl rfl)
theorem dX6_units_34 : decode cX6_units 34 = .ok (.iload_n 3, 1) := dk_29 (dk_at dksX6_units_1 12 rfl rfl)
theorem dX6_units_35 : decode cX6_units 35 = .ok (.iload_n 2, 1) := dk_28 (dk_at dksX6_units_1 13 rfl rfl)
theorem dX6_units_36 : decode cX6_units 36 = .ok (.if_icmp .ge 35, 3) := dk_162 0 35 (dk_at dksX6_units_1 14 rfl rfl)
theorem dX6_units_39 : decode cX6_units 39 = .ok (.aload_n 0, 1) := dk_42 (dk_at dksX6_units_1 17 rfl rfl)
theorem dX6_units_40 : decode cX6_units 40 = .ok (.aload_n 0, 1) := dk_42 (dk_at dksX6_units_1 18 rfl rfl)
theorem dX6_units_41 : decode cX6_units 41 = .ok (.invokevirtual 264, 3) := dk_182 1 8 (dk_at dksX6_units_1 19 rfl rfl)
theorem dX6_units_44 : decode cX6_units 44 = .ok (.iload_n 2, 1) := dk_28 (dk_at dksX6_units_1 22 rfl rfl)
theorem dX6_units_45 : decode cX6_units 45 = .ok (.invokevirtual 270, 3) := dk_182 1 14 (dk_at dksX6_units_2 0 rfl rfl)
theorem dX6_units_48 : decode cX6_units 48 = .ok (.ifCond .eq 23, 3) := dk_153 0 23 (dk_at dksX6_units_2 3 rfl rfl)
theorem dX6_units_51 : decode cX6_units 51 = .ok (.aload_n 0, 1) := dk_42 (dk_at dksX6_units_2 6 rfl rfl)
theorem dX6_units_52 : decode cX6_units 52 = .ok (.aload_n 0, 1) := dk_42 (dk_at dksX6_units_2 7 rfl rfl)
theorem dX6_units_53 : decode cX6_units 53 = .ok (.invokevirtual 264, 3) := dk_182 1 8 (dk_at dksX6_units_2 8 rfl rfl)
theorem dX6_units_56 : decode cX6_units 56 = .ok (.iload_n 3, 1) := dk_29 (dk_at dksX6_units_2 11 rfl rfl)
theorem dX6_units_57 : decode cX6_units 57 = .ok (.invokevirtual 270, 3) := dk_182 1 14 (dk_at dksX6_units_2 12 rfl rfl)
theorem dX6_units_60 : decode cX6_units 60 = .ok (.ifCond .eq 11, 3) := dk_153 0 11 (dk_at dksX6_units_2 15 rfl rfl)
theorem dX6_units_63 : decode cX6_units 63 = .ok (.iload_n 1, 1) := dk_27 (dk_at dksX6_units_2 18 rfl rfl)
theorem dX6_units_64 : decode cX6_units 64 = .ok (.iconst 1, 1) := dk_4 (dk_at dksX6_units_2 19 rfl rfl)
theorem dX6_units_65 : decode cX6_units 65 = .ok (.iload_n 2, 1) := dk_28 (dk_at dksX6_units_2 20 rfl rfl)
theorem dX6_units_66 : decode cX6_units 66 = .ok (.ishl, 1) := dk_120 (dk_at dksX6_units_2 21 rfl rfl)
theorem dX6_units_67 : decode cX6_units 67 = .ok (.iconst (-1), 1) := dk_2 (dk_at dksX6_units_2 22 rfl rfl)
theorem dX6_units_68 : decode cX6_units 68 = .ok (.ixor, 1) := dk_130 (dk_at dksX6_units_2 23 rfl rfl)
theorem dX6_units_69 : decode cX6_units 69 = .ok (.iand, 1) := dk_126 (dk_at dksX6_units_3 0 rfl rfl)
theorem dX6_units_70 : decode cX6_units 70 = .ok (.istore_n 1, 1) := dk_60 (dk_at dksX6_units_3 1 rfl rfl)
theorem dX6_units_71 : decode cX6_units 71 = .ok (.iinc 2 1, 3) := dk_132 2 1 (dk_at dksX6_units_3 2 rfl rfl)
theorem dX6_units_74 : decode cX6_units 74 = .ok (.goto (-67), 3) := dk_167 255 189 (dk_at dksX6_units_3 5 rfl rfl)
theorem dX6_units_77 : decode cX6_units 77 = .ok (.iload_n 1, 1) := dk_27 (dk_at dksX6_units_3 8 rfl rfl)
theorem dX6_units_78 : decode cX6_units 78 = .ok (.ireturn, 1) := dk_172 (dk_at dksX6_units_3 9 rfl rfl)
abbrev cX6_isIn : ByteArray := prog_16_method_60_code
def yX6_isIn : MethodName := ⟨RX6, "isIn", "(II)Z"⟩
def dkwX6_isIn_0 : List UInt8 := [27, 28, 122, 4, 126, 4, 160, 0, 7, 4, 167, 0, 4, 3, 172]
abbrev dktX6_isIn_0 : List UInt8 := dkwX6_isIn_0 ++ []
theorem dksX6_isIn_0 : cX6_isIn.data.toList.drop 0 = dktX6_isIn_0 := by decide +kernel
theorem dX6_isIn_0 : decode cX6_isIn 0 = .ok (.iload_n 1, 1) := dk_27 (dk_at dksX6_isIn_0 0 rfl rfl)
theorem dX6_isIn_1 : decode cX6_isIn 1 = .ok (.iload_n 2, 1) := dk_28 (dk_at dksX6_isIn_0 1 rfl rfl)
theorem dX6_isIn_2 : decode cX6_isIn 2 = .ok (.ishr, 1) := dk_122 (dk_at dksX6_isIn_0 2 rfl rfl)
theorem dX6_isIn_3 : decode cX6_isIn 3 = .ok (.iconst 1, 1) := dk_4 (dk_at dksX6_isIn_0 3 rfl rfl)
theorem dX6_isIn_4 : decode cX6_isIn 4 = .ok (.iand, 1) := dk_126 (dk_at dksX6_isIn_0 4 rfl rfl)
theorem dX6_isIn_5 : decode cX6_isIn 5 = .ok (.iconst 1, 1) := dk_4 (dk_at dksX6_isIn_0 5 rfl rfl)
theorem dX6_isIn_6 : decode cX6_isIn 6 = .ok (.if_icmp .ne 7, 3) := dk_160 0 7 (dk_at dksX6_isIn_0 6 rfl rfl)
theorem dX6_isIn_9 : decode cX6_isIn 9 = .ok (.iconst 1, 1) := dk_4 (dk_at dksX6_isIn_0 9 rfl rfl)
theorem dX6_isIn_10 : decode cX6_isIn 10 = .ok (.goto 4, 3) := dk_167 0 4 (dk_at dksX6_isIn_0 10 rfl rfl)
theorem dX6_isIn_13 : decode cX6_isIn 13 = .ok (.iconst 0, 1) := dk_3 (dk_at dksX6_isIn_0 13 rfl rfl)
theorem dX6_isIn_14 : decode cX6_isIn 14 = .ok (.ireturn, 1) := dk_172 (dk_at dksX6_isIn_0 14 rfl rfl)
abbrev cX6_unfair : ByteArray := prog_16_method_75_code
def yX6_unfair : MethodName := ⟨RX6, "unfair", "(I)I"⟩
def dkwX6_unfair_1 : List UInt8 := [172]
abbrev dktX6_unfair_1 : List UInt8 := dkwX6_unfair_1 ++ []
def dkwX6_unfair_0 : List UInt8 := [27, 184, 1, 38, 153, 0, 15, 42, 42, 27, 182, 1, 41, 182, 0, 79, 167, 0, 8, 42, 4, 182, 0, 75]
abbrev dktX6_unfair_0 : List UInt8 := dkwX6_unfair_0 ++ dktX6_unfair_1
theorem dksX6_unfair_0 : cX6_unfair.data.toList.drop 0 = dktX6_unfair_0 := by decide +kernel
theorem dksX6_unfair_1 : cX6_unfair.data.toList.drop 24 = dktX6_unfair_1 := dk_seg dksX6_unfair_0 24 rfl rfl
theorem dX6_unfair_0 : decode cX6_unfair 0 = .ok (.iload_n 1, 1) := dk_27 (dk_at dksX6_unfair_0 0 rfl rfl)
theorem dX6_unfair_1 : decode cX6_unfair 1 = .ok (.invokestatic 294, 3) := dk_184 1 38 (dk_at dksX6_unfair_0 1 rfl rfl)
theorem dX6_unfair_4 : decode cX6_unfair 4 = .ok (.ifCond .eq 15, 3) := dk_153 0 15 (dk_at dksX6_unfair_0 4 rfl rfl)
theorem dX6_unfair_7 : decode cX6_unfair 7 = .ok (.aload_n 0, 1) := dk_42 (dk_at dksX6_unfair_0 7 rfl rfl)
theorem dX6_unfair_8 : decode cX6_unfair 8 = .ok (.aload_n 0, 1) := dk_42 (dk_at dksX6_unfair_0 8 rfl rfl)
theorem dX6_unfair_9 : decode cX6_unfair 9 = .ok (.iload_n 1, 1) := dk_27 (dk_at dksX6_unfair_0 9 rfl rfl)
theorem dX6_unfair_10 : decode cX6_unfair 10 = .ok (.invokevirtual 297, 3) := dk_182 1 41 (dk_at dksX6_unfair_0 10 rfl rfl)
theorem dX6_unfair_13 : decode cX6_unfair 13 = .ok (.invokevirtual 79, 3) := dk_182 0 79 (dk_at dksX6_unfair_0 13 rfl rfl)
theorem dX6_unfair_16 : decode cX6_unfair 16 = .ok (.goto 8, 3) := dk_167 0 8 (dk_at dksX6_unfair_0 16 rfl rfl)
theorem dX6_unfair_19 : decode cX6_unfair 19 = .ok (.aload_n 0, 1) := dk_42 (dk_at dksX6_unfair_0 19 rfl rfl)
theorem dX6_unfair_20 : decode cX6_unfair 20 = .ok (.iconst 1, 1) := dk_4 (dk_at dksX6_unfair_0 20 rfl rfl)
theorem dX6_unfair_21 : decode cX6_unfair 21 = .ok (.invokevirtual 75, 3) := dk_182 0 75 (dk_at dksX6_unfair_0 21 rfl rfl)
theorem dX6_unfair_24 : decode cX6_unfair 24 = .ok (.ireturn, 1) := dk_172 (dk_at dksX6_unfair_1 0 rfl rfl)
abbrev cX6_unfairBy : ByteArray := prog_16_method_67_code
def yX6_unfairBy : MethodName := ⟨RX6, "unfairBy", "(I)I"⟩
def dkwX6_unfairBy_1 : List UInt8 := [182, 1, 23, 100, 184, 1, 29, 96, 61, 132, 3, 1, 167, 255, 225, 28, 172]
abbrev dktX6_unfairBy_1 : List UInt8 := dkwX6_unfairBy_1 ++ []
def dkwX6_unfairBy_0 : List UInt8 := [3, 61, 3, 62, 29, 42, 180, 0, 7, 3, 46, 162, 0, 27, 28, 42, 29, 27, 182, 1, 26, 42, 29]
abbrev dktX6_unfairBy_0 : List UInt8 := dkwX6_unfairBy_0 ++ dktX6_unfairBy_1
theorem dksX6_unfairBy_0 : cX6_unfairBy.data.toList.drop 0 = dktX6_unfairBy_0 := by decide +kernel
theorem dksX6_unfairBy_1 : cX6_unfairBy.data.toList.drop 23 = dktX6_unfairBy_1 := dk_seg dksX6_unfairBy_0 23 rfl rfl
theorem dX6_unfairBy_0 : decode cX6_unfairBy 0 = .ok (.iconst 0, 1) := dk_3 (dk_at dksX6_unfairBy_0 0 rfl rfl)
theorem dX6_unfairBy_1 : decode cX6_unfairBy 1 = .ok (.istore_n 2, 1) := dk_61 (dk_at dksX6_unfairBy_0 1 rfl rfl)
theorem dX6_unfairBy_2 : decode cX6_unfairBy 2 = .ok (.iconst 0, 1) := dk_3 (dk_at dksX6_unfairBy_0 2 rfl rfl)
theorem dX6_unfairBy_3 : decode cX6_unfairBy 3 = .ok (.istore_n 3, 1) := dk_62 (dk_at dksX6_unfairBy_0 3 rfl rfl)
theorem dX6_unfairBy_4 : decode cX6_unfairBy 4 = .ok (.iload_n 3, 1) := dk_29 (dk_at dksX6_unfairBy_0 4 rfl rfl)
theorem dX6_unfairBy_5 : decode cX6_unfairBy 5 = .ok (.aload_n 0, 1) := dk_42 (dk_at dksX6_unfairBy_0 5 rfl rfl)
theorem dX6_unfairBy_6 : decode cX6_unfairBy 6 = .ok (.getfield 7, 3) := dk_180 0 7 (dk_at dksX6_unfairBy_0 6 rfl rfl)
theorem dX6_unfairBy_9 : decode cX6_unfairBy 9 = .ok (.iconst 0, 1) := dk_3 (dk_at dksX6_unfairBy_0 9 rfl rfl)
theorem dX6_unfairBy_10 : decode cX6_unfairBy 10 = .ok (.iaload, 1) := dk_46 (dk_at dksX6_unfairBy_0 10 rfl rfl)
theorem dX6_unfairBy_11 : decode cX6_unfairBy 11 = .ok (.if_icmp .ge 27, 3) := dk_162 0 27 (dk_at dksX6_unfairBy_0 11 rfl rfl)
theorem dX6_unfairBy_14 : decode cX6_unfairBy 14 = .ok (.iload_n 2, 1) := dk_28 (dk_at dksX6_unfairBy_0 14 rfl rfl)
theorem dX6_unfairBy_15 : decode cX6_unfairBy 15 = .ok (.aload_n 0, 1) := dk_42 (dk_at dksX6_unfairBy_0 15 rfl rfl)
theorem dX6_unfairBy_16 : decode cX6_unfairBy 16 = .ok (.iload_n 3, 1) := dk_29 (dk_at dksX6_unfairBy_0 16 rfl rfl)
theorem dX6_unfairBy_17 : decode cX6_unfairBy 17 = .ok (.iload_n 1, 1) := dk_27 (dk_at dksX6_unfairBy_0 17 rfl rfl)
theorem dX6_unfairBy_18 : decode cX6_unfairBy 18 = .ok (.invokevirtual 282, 3) := dk_182 1 26 (dk_at dksX6_unfairBy_0 18 rfl rfl)
theorem dX6_unfairBy_21 : decode cX6_unfairBy 21 = .ok (.aload_n 0, 1) := dk_42 (dk_at dksX6_unfairBy_0 21 rfl rfl)
theorem dX6_unfairBy_22 : decode cX6_unfairBy 22 = .ok (.iload_n 3, 1) := dk_29 (dk_at dksX6_unfairBy_0 22 rfl rfl)
theorem dX6_unfairBy_23 : decode cX6_unfairBy 23 = .ok (.invokevirtual 279, 3) := dk_182 1 23 (dk_at dksX6_unfairBy_1 0 rfl rfl)
theorem dX6_unfairBy_26 : decode cX6_unfairBy 26 = .ok (.isub, 1) := dk_100 (dk_at dksX6_unfairBy_1 3 rfl rfl)
theorem dX6_unfairBy_27 : decode cX6_unfairBy 27 = .ok (.invokestatic 285, 3) := dk_184 1 29 (dk_at dksX6_unfairBy_1 4 rfl rfl)
theorem dX6_unfairBy_30 : decode cX6_unfairBy 30 = .ok (.iadd, 1) := dk_96 (dk_at dksX6_unfairBy_1 7 rfl rfl)
theorem dX6_unfairBy_31 : decode cX6_unfairBy 31 = .ok (.istore_n 2, 1) := dk_61 (dk_at dksX6_unfairBy_1 8 rfl rfl)
theorem dX6_unfairBy_32 : decode cX6_unfairBy 32 = .ok (.iinc 3 1, 3) := dk_132 3 1 (dk_at dksX6_unfairBy_1 9 rfl rfl)
theorem dX6_unfairBy_35 : decode cX6_unfairBy 35 = .ok (.goto (-31), 3) := dk_167 255 225 (dk_at dksX6_unfairBy_1 12 rfl rfl)
theorem dX6_unfairBy_38 : decode cX6_unfairBy 38 = .ok (.iload_n 2, 1) := dk_28 (dk_at dksX6_unfairBy_1 15 rfl rfl)
theorem dX6_unfairBy_39 : decode cX6_unfairBy 39 = .ok (.ireturn, 1) := dk_172 (dk_at dksX6_unfairBy_1 16 rfl rfl)
abbrev cX6_fairest : ByteArray := prog_16_method_76_code
def yX6_fairest : MethodName := ⟨RX6, "fairest", "()I"⟩
def dkwX6_fairest_1 : List UInt8 := [132, 2, 1, 167, 255, 233, 42, 27, 182, 0, 79, 172]
abbrev dktX6_fairest_1 : List UInt8 := dkwX6_fairest_1 ++ []
def dkwX6_fairest_0 : List UInt8 := [3, 60, 4, 61, 28, 6, 162, 0, 24, 42, 28, 182, 1, 41, 42, 27, 182, 1, 41, 162, 0, 5, 28, 60]
abbrev dktX6_fairest_0 : List UInt8 := dkwX6_fairest_0 ++ dktX6_fairest_1
theorem dksX6_fairest_0 : cX6_fairest.data.toList.drop 0 = dktX6_fairest_0 := by decide +kernel
theorem dksX6_fairest_1 : cX6_fairest.data.toList.drop 24 = dktX6_fairest_1 := dk_seg dksX6_fairest_0 24 rfl rfl
theorem dX6_fairest_0 : decode cX6_fairest 0 = .ok (.iconst 0, 1) := dk_3 (dk_at dksX6_fairest_0 0 rfl rfl)
theorem dX6_fairest_1 : decode cX6_fairest 1 = .ok (.istore_n 1, 1) := dk_60 (dk_at dksX6_fairest_0 1 rfl rfl)
theorem dX6_fairest_2 : decode cX6_fairest 2 = .ok (.iconst 1, 1) := dk_4 (dk_at dksX6_fairest_0 2 rfl rfl)
theorem dX6_fairest_3 : decode cX6_fairest 3 = .ok (.istore_n 2, 1) := dk_61 (dk_at dksX6_fairest_0 3 rfl rfl)
theorem dX6_fairest_4 : decode cX6_fairest 4 = .ok (.iload_n 2, 1) := dk_28 (dk_at dksX6_fairest_0 4 rfl rfl)
theorem dX6_fairest_5 : decode cX6_fairest 5 = .ok (.iconst 3, 1) := dk_6 (dk_at dksX6_fairest_0 5 rfl rfl)
theorem dX6_fairest_6 : decode cX6_fairest 6 = .ok (.if_icmp .ge 24, 3) := dk_162 0 24 (dk_at dksX6_fairest_0 6 rfl rfl)
theorem dX6_fairest_9 : decode cX6_fairest 9 = .ok (.aload_n 0, 1) := dk_42 (dk_at dksX6_fairest_0 9 rfl rfl)
theorem dX6_fairest_10 : decode cX6_fairest 10 = .ok (.iload_n 2, 1) := dk_28 (dk_at dksX6_fairest_0 10 rfl rfl)
theorem dX6_fairest_11 : decode cX6_fairest 11 = .ok (.invokevirtual 297, 3) := dk_182 1 41 (dk_at dksX6_fairest_0 11 rfl rfl)
theorem dX6_fairest_14 : decode cX6_fairest 14 = .ok (.aload_n 0, 1) := dk_42 (dk_at dksX6_fairest_0 14 rfl rfl)
theorem dX6_fairest_15 : decode cX6_fairest 15 = .ok (.iload_n 1, 1) := dk_27 (dk_at dksX6_fairest_0 15 rfl rfl)
theorem dX6_fairest_16 : decode cX6_fairest 16 = .ok (.invokevirtual 297, 3) := dk_182 1 41 (dk_at dksX6_fairest_0 16 rfl rfl)
theorem dX6_fairest_19 : decode cX6_fairest 19 = .ok (.if_icmp .ge 5, 3) := dk_162 0 5 (dk_at dksX6_fairest_0 19 rfl rfl)
theorem dX6_fairest_22 : decode cX6_fairest 22 = .ok (.iload_n 2, 1) := dk_28 (dk_at dksX6_fairest_0 22 rfl rfl)
theorem dX6_fairest_23 : decode cX6_fairest 23 = .ok (.istore_n 1, 1) := dk_60 (dk_at dksX6_fairest_0 23 rfl rfl)
theorem dX6_fairest_24 : decode cX6_fairest 24 = .ok (.iinc 2 1, 3) := dk_132 2 1 (dk_at dksX6_fairest_1 0 rfl rfl)
theorem dX6_fairest_27 : decode cX6_fairest 27 = .ok (.goto (-23), 3) := dk_167 255 233 (dk_at dksX6_fairest_1 3 rfl rfl)
theorem dX6_fairest_30 : decode cX6_fairest 30 = .ok (.aload_n 0, 1) := dk_42 (dk_at dksX6_fairest_1 6 rfl rfl)
theorem dX6_fairest_31 : decode cX6_fairest 31 = .ok (.iload_n 1, 1) := dk_27 (dk_at dksX6_fairest_1 7 rfl rfl)
theorem dX6_fairest_32 : decode cX6_fairest 32 = .ok (.invokevirtual 79, 3) := dk_182 0 79 (dk_at dksX6_fairest_1 8 rfl rfl)
theorem dX6_fairest_35 : decode cX6_fairest 35 = .ok (.ireturn, 1) := dk_172 (dk_at dksX6_fairest_1 11 rfl rfl)
abbrev cX6_dearer : ByteArray := prog_16_method_77_code
def yX6_dearer : MethodName := ⟨RX6, "dearer", "(III)I"⟩
def dkwX6_dearer_1 : List UInt8 := [27, 28, 182, 1, 26, 42, 27, 29, 182, 1, 26, 100, 182, 0, 79, 167, 0, 8, 42, 4, 182, 0, 75, 172]
abbrev dktX6_dearer_1 : List UInt8 := dkwX6_dearer_1 ++ []
def dkwX6_dearer_0 : List UInt8 := [42, 27, 182, 0, 248, 153, 0, 37, 28, 184, 1, 38, 153, 0, 30, 29, 184, 1, 38, 153, 0, 23, 42, 42]
abbrev dktX6_dearer_0 : List UInt8 := dkwX6_dearer_0 ++ dktX6_dearer_1
theorem dksX6_dearer_0 : cX6_dearer.data.toList.drop 0 = dktX6_dearer_0 := by decide +kernel
theorem dksX6_dearer_1 : cX6_dearer.data.toList.drop 24 = dktX6_dearer_1 := dk_seg dksX6_dearer_0 24 rfl rfl
theorem dX6_dearer_0 : decode cX6_dearer 0 = .ok (.aload_n 0, 1) := dk_42 (dk_at dksX6_dearer_0 0 rfl rfl)
theorem dX6_dearer_1 : decode cX6_dearer 1 = .ok (.iload_n 1, 1) := dk_27 (dk_at dksX6_dearer_0 1 rfl rfl)
theorem dX6_dearer_2 : decode cX6_dearer 2 = .ok (.invokevirtual 248, 3) := dk_182 0 248 (dk_at dksX6_dearer_0 2 rfl rfl)
theorem dX6_dearer_5 : decode cX6_dearer 5 = .ok (.ifCond .eq 37, 3) := dk_153 0 37 (dk_at dksX6_dearer_0 5 rfl rfl)
theorem dX6_dearer_8 : decode cX6_dearer 8 = .ok (.iload_n 2, 1) := dk_28 (dk_at dksX6_dearer_0 8 rfl rfl)
theorem dX6_dearer_9 : decode cX6_dearer 9 = .ok (.invokestatic 294, 3) := dk_184 1 38 (dk_at dksX6_dearer_0 9 rfl rfl)
theorem dX6_dearer_12 : decode cX6_dearer 12 = .ok (.ifCond .eq 30, 3) := dk_153 0 30 (dk_at dksX6_dearer_0 12 rfl rfl)
theorem dX6_dearer_15 : decode cX6_dearer 15 = .ok (.iload_n 3, 1) := dk_29 (dk_at dksX6_dearer_0 15 rfl rfl)
theorem dX6_dearer_16 : decode cX6_dearer 16 = .ok (.invokestatic 294, 3) := dk_184 1 38 (dk_at dksX6_dearer_0 16 rfl rfl)
theorem dX6_dearer_19 : decode cX6_dearer 19 = .ok (.ifCond .eq 23, 3) := dk_153 0 23 (dk_at dksX6_dearer_0 19 rfl rfl)
theorem dX6_dearer_22 : decode cX6_dearer 22 = .ok (.aload_n 0, 1) := dk_42 (dk_at dksX6_dearer_0 22 rfl rfl)
theorem dX6_dearer_23 : decode cX6_dearer 23 = .ok (.aload_n 0, 1) := dk_42 (dk_at dksX6_dearer_0 23 rfl rfl)
theorem dX6_dearer_24 : decode cX6_dearer 24 = .ok (.iload_n 1, 1) := dk_27 (dk_at dksX6_dearer_1 0 rfl rfl)
theorem dX6_dearer_25 : decode cX6_dearer 25 = .ok (.iload_n 2, 1) := dk_28 (dk_at dksX6_dearer_1 1 rfl rfl)
theorem dX6_dearer_26 : decode cX6_dearer 26 = .ok (.invokevirtual 282, 3) := dk_182 1 26 (dk_at dksX6_dearer_1 2 rfl rfl)
theorem dX6_dearer_29 : decode cX6_dearer 29 = .ok (.aload_n 0, 1) := dk_42 (dk_at dksX6_dearer_1 5 rfl rfl)
theorem dX6_dearer_30 : decode cX6_dearer 30 = .ok (.iload_n 1, 1) := dk_27 (dk_at dksX6_dearer_1 6 rfl rfl)
theorem dX6_dearer_31 : decode cX6_dearer 31 = .ok (.iload_n 3, 1) := dk_29 (dk_at dksX6_dearer_1 7 rfl rfl)
theorem dX6_dearer_32 : decode cX6_dearer 32 = .ok (.invokevirtual 282, 3) := dk_182 1 26 (dk_at dksX6_dearer_1 8 rfl rfl)
theorem dX6_dearer_35 : decode cX6_dearer 35 = .ok (.isub, 1) := dk_100 (dk_at dksX6_dearer_1 11 rfl rfl)
theorem dX6_dearer_36 : decode cX6_dearer 36 = .ok (.invokevirtual 79, 3) := dk_182 0 79 (dk_at dksX6_dearer_1 12 rfl rfl)
theorem dX6_dearer_39 : decode cX6_dearer 39 = .ok (.goto 8, 3) := dk_167 0 8 (dk_at dksX6_dearer_1 15 rfl rfl)
theorem dX6_dearer_42 : decode cX6_dearer 42 = .ok (.aload_n 0, 1) := dk_42 (dk_at dksX6_dearer_1 18 rfl rfl)
theorem dX6_dearer_43 : decode cX6_dearer 43 = .ok (.iconst 1, 1) := dk_4 (dk_at dksX6_dearer_1 19 rfl rfl)
theorem dX6_dearer_44 : decode cX6_dearer 44 = .ok (.invokevirtual 75, 3) := dk_182 0 75 (dk_at dksX6_dearer_1 20 rfl rfl)
theorem dX6_dearer_47 : decode cX6_dearer 47 = .ok (.ireturn, 1) := dk_172 (dk_at dksX6_dearer_1 23 rfl rfl)
abbrev cX6_hardest : ByteArray := prog_16_method_78_code
def yX6_hardest : MethodName := ⟨RX6, "hardest", "(I)I"⟩
def dkwX6_hardest_2 : List UInt8 := [61, 132, 3, 1, 167, 255, 221, 42, 28, 182, 1, 35, 172]
abbrev dktX6_hardest_2 : List UInt8 := dkwX6_hardest_2 ++ []
def dkwX6_hardest_1 : List UInt8 := [162, 0, 31, 28, 2, 159, 0, 18, 42, 29, 27, 182, 1, 26, 42, 28, 27, 182, 1, 26, 164, 0, 5, 29]
abbrev dktX6_hardest_1 : List UInt8 := dkwX6_hardest_1 ++ dktX6_hardest_2
def dkwX6_hardest_0 : List UInt8 := [27, 184, 1, 38, 154, 0, 9, 42, 4, 182, 0, 75, 172, 2, 61, 3, 62, 29, 42, 180, 0, 7, 3, 46]
abbrev dktX6_hardest_0 : List UInt8 := dkwX6_hardest_0 ++ dktX6_hardest_1
theorem dksX6_hardest_0 : cX6_hardest.data.toList.drop 0 = dktX6_hardest_0 := by decide +kernel
theorem dksX6_hardest_1 : cX6_hardest.data.toList.drop 24 = dktX6_hardest_1 := dk_seg dksX6_hardest_0 24 rfl rfl
theorem dksX6_hardest_2 : cX6_hardest.data.toList.drop 48 = dktX6_hardest_2 := dk_seg dksX6_hardest_1 24 rfl rfl
theorem dX6_hardest_0 : decode cX6_hardest 0 = .ok (.iload_n 1, 1) := dk_27 (dk_at dksX6_hardest_0 0 rfl rfl)
theorem dX6_hardest_1 : decode cX6_hardest 1 = .ok (.invokestatic 294, 3) := dk_184 1 38 (dk_at dksX6_hardest_0 1 rfl rfl)
theorem dX6_hardest_4 : decode cX6_hardest 4 = .ok (.ifCond .ne 9, 3) := dk_154 0 9 (dk_at dksX6_hardest_0 4 rfl rfl)
theorem dX6_hardest_7 : decode cX6_hardest 7 = .ok (.aload_n 0, 1) := dk_42 (dk_at dksX6_hardest_0 7 rfl rfl)
theorem dX6_hardest_8 : decode cX6_hardest 8 = .ok (.iconst 1, 1) := dk_4 (dk_at dksX6_hardest_0 8 rfl rfl)
theorem dX6_hardest_9 : decode cX6_hardest 9 = .ok (.invokevirtual 75, 3) := dk_182 0 75 (dk_at dksX6_hardest_0 9 rfl rfl)
theorem dX6_hardest_12 : decode cX6_hardest 12 = .ok (.ireturn, 1) := dk_172 (dk_at dksX6_hardest_0 12 rfl rfl)
theorem dX6_hardest_13 : decode cX6_hardest 13 = .ok (.iconst (-1), 1) := dk_2 (dk_at dksX6_hardest_0 13 rfl rfl)
theorem dX6_hardest_14 : decode cX6_hardest 14 = .ok (.istore_n 2, 1) := dk_61 (dk_at dksX6_hardest_0 14 rfl rfl)
theorem dX6_hardest_15 : decode cX6_hardest 15 = .ok (.iconst 0, 1) := dk_3 (dk_at dksX6_hardest_0 15 rfl rfl)
theorem dX6_hardest_16 : decode cX6_hardest 16 = .ok (.istore_n 3, 1) := dk_62 (dk_at dksX6_hardest_0 16 rfl rfl)
theorem dX6_hardest_17 : decode cX6_hardest 17 = .ok (.iload_n 3, 1) := dk_29 (dk_at dksX6_hardest_0 17 rfl rfl)
theorem dX6_hardest_18 : decode cX6_hardest 18 = .ok (.aload_n 0, 1) := dk_42 (dk_at dksX6_hardest_0 18 rfl rfl)
theorem dX6_hardest_19 : decode cX6_hardest 19 = .ok (.getfield 7, 3) := dk_180 0 7 (dk_at dksX6_hardest_0 19 rfl rfl)
theorem dX6_hardest_22 : decode cX6_hardest 22 = .ok (.iconst 0, 1) := dk_3 (dk_at dksX6_hardest_0 22 rfl rfl)
theorem dX6_hardest_23 : decode cX6_hardest 23 = .ok (.iaload, 1) := dk_46 (dk_at dksX6_hardest_0 23 rfl rfl)
theorem dX6_hardest_24 : decode cX6_hardest 24 = .ok (.if_icmp .ge 31, 3) := dk_162 0 31 (dk_at dksX6_hardest_1 0 rfl rfl)
theorem dX6_hardest_27 : decode cX6_hardest 27 = .ok (.iload_n 2, 1) := dk_28 (dk_at dksX6_hardest_1 3 rfl rfl)
theorem dX6_hardest_28 : decode cX6_hardest 28 = .ok (.iconst (-1), 1) := dk_2 (dk_at dksX6_hardest_1 4 rfl rfl)
theorem dX6_hardest_29 : decode cX6_hardest 29 = .ok (.if_icmp .eq 18, 3) := dk_159 0 18 (dk_at dksX6_hardest_1 5 rfl rfl)
theorem dX6_hardest_32 : decode cX6_hardest 32 = .ok (.aload_n 0, 1) := dk_42 (dk_at dksX6_hardest_1 8 rfl rfl)
theorem dX6_hardest_33 : decode cX6_hardest 33 = .ok (.iload_n 3, 1) := dk_29 (dk_at dksX6_hardest_1 9 rfl rfl)
theorem dX6_hardest_34 : decode cX6_hardest 34 = .ok (.iload_n 1, 1) := dk_27 (dk_at dksX6_hardest_1 10 rfl rfl)
theorem dX6_hardest_35 : decode cX6_hardest 35 = .ok (.invokevirtual 282, 3) := dk_182 1 26 (dk_at dksX6_hardest_1 11 rfl rfl)
theorem dX6_hardest_38 : decode cX6_hardest 38 = .ok (.aload_n 0, 1) := dk_42 (dk_at dksX6_hardest_1 14 rfl rfl)
theorem dX6_hardest_39 : decode cX6_hardest 39 = .ok (.iload_n 2, 1) := dk_28 (dk_at dksX6_hardest_1 15 rfl rfl)
theorem dX6_hardest_40 : decode cX6_hardest 40 = .ok (.iload_n 1, 1) := dk_27 (dk_at dksX6_hardest_1 16 rfl rfl)
theorem dX6_hardest_41 : decode cX6_hardest 41 = .ok (.invokevirtual 282, 3) := dk_182 1 26 (dk_at dksX6_hardest_1 17 rfl rfl)
theorem dX6_hardest_44 : decode cX6_hardest 44 = .ok (.if_icmp .le 5, 3) := dk_164 0 5 (dk_at dksX6_hardest_1 20 rfl rfl)
theorem dX6_hardest_47 : decode cX6_hardest 47 = .ok (.iload_n 3, 1) := dk_29 (dk_at dksX6_hardest_1 23 rfl rfl)
theorem dX6_hardest_48 : decode cX6_hardest 48 = .ok (.istore_n 2, 1) := dk_61 (dk_at dksX6_hardest_2 0 rfl rfl)
theorem dX6_hardest_49 : decode cX6_hardest 49 = .ok (.iinc 3 1, 3) := dk_132 3 1 (dk_at dksX6_hardest_2 1 rfl rfl)
theorem dX6_hardest_52 : decode cX6_hardest 52 = .ok (.goto (-35), 3) := dk_167 255 221 (dk_at dksX6_hardest_2 4 rfl rfl)
theorem dX6_hardest_55 : decode cX6_hardest 55 = .ok (.aload_n 0, 1) := dk_42 (dk_at dksX6_hardest_2 7 rfl rfl)
theorem dX6_hardest_56 : decode cX6_hardest 56 = .ok (.iload_n 2, 1) := dk_28 (dk_at dksX6_hardest_2 8 rfl rfl)
theorem dX6_hardest_57 : decode cX6_hardest 57 = .ok (.invokevirtual 291, 3) := dk_182 1 35 (dk_at dksX6_hardest_2 9 rfl rfl)
theorem dX6_hardest_60 : decode cX6_hardest 60 = .ok (.ireturn, 1) := dk_172 (dk_at dksX6_hardest_2 12 rfl rfl)
abbrev cX6_order : ByteArray := prog_16_method_79_code
def yX6_order : MethodName := ⟨RX6, "order", "(II)I"⟩
def dkwX6_order_4 : List UInt8 := [46, 182, 0, 79, 172]
abbrev dktX6_order_4 : List UInt8 := dkwX6_order_4 ++ []
def dkwX6_order_3 : List UInt8 := [180, 0, 7, 29, 4, 96, 28, 79, 42, 180, 0, 7, 5, 92, 46, 4, 96, 79, 42, 42, 180, 0, 7, 5]
abbrev dktX6_order_3 : List UInt8 := dkwX6_order_3 ++ dktX6_order_4
def dkwX6_order_2 : List UInt8 := [182, 0, 75, 172, 16, 60, 5, 42, 180, 0, 7, 5, 46, 104, 96, 62, 42, 180, 0, 7, 29, 27, 79, 42]
abbrev dktX6_order_2 : List UInt8 := dkwX6_order_2 ++ dktX6_order_3
def dkwX6_order_1 : List UInt8 := [154, 0, 9, 42, 4, 182, 0, 75, 172, 42, 180, 0, 7, 5, 46, 16, 16, 160, 0, 9, 42, 7]
abbrev dktX6_order_1 : List UInt8 := dkwX6_order_1 ++ dktX6_order_2
def dkwX6_order_0 : List UInt8 := [27, 133, 10, 20, 1, 44, 184, 1, 46, 153, 0, 16, 28, 2, 159, 0, 17, 42, 28, 182, 0, 248]
abbrev dktX6_order_0 : List UInt8 := dkwX6_order_0 ++ dktX6_order_1
theorem dksX6_order_0 : cX6_order.data.toList.drop 0 = dktX6_order_0 := by decide +kernel
theorem dksX6_order_1 : cX6_order.data.toList.drop 22 = dktX6_order_1 := dk_seg dksX6_order_0 22 rfl rfl
theorem dksX6_order_2 : cX6_order.data.toList.drop 44 = dktX6_order_2 := dk_seg dksX6_order_1 22 rfl rfl
theorem dksX6_order_3 : cX6_order.data.toList.drop 68 = dktX6_order_3 := dk_seg dksX6_order_2 24 rfl rfl
theorem dksX6_order_4 : cX6_order.data.toList.drop 92 = dktX6_order_4 := dk_seg dksX6_order_3 24 rfl rfl
theorem dX6_order_0 : decode cX6_order 0 = .ok (.iload_n 1, 1) := dk_27 (dk_at dksX6_order_0 0 rfl rfl)
theorem dX6_order_1 : decode cX6_order 1 = .ok (.i2l, 1) := dk_133 (dk_at dksX6_order_0 1 rfl rfl)
theorem dX6_order_2 : decode cX6_order 2 = .ok (.lconst 1, 1) := dk_10 (dk_at dksX6_order_0 2 rfl rfl)
theorem dX6_order_3 : decode cX6_order 3 = .ok (.ldc2_w 300, 3) := dk_20 1 44 (dk_at dksX6_order_0 3 rfl rfl)
theorem dX6_order_6 : decode cX6_order 6 = .ok (.invokestatic 302, 3) := dk_184 1 46 (dk_at dksX6_order_0 6 rfl rfl)
theorem dX6_order_9 : decode cX6_order 9 = .ok (.ifCond .eq 16, 3) := dk_153 0 16 (dk_at dksX6_order_0 9 rfl rfl)
theorem dX6_order_12 : decode cX6_order 12 = .ok (.iload_n 2, 1) := dk_28 (dk_at dksX6_order_0 12 rfl rfl)
theorem dX6_order_13 : decode cX6_order 13 = .ok (.iconst (-1), 1) := dk_2 (dk_at dksX6_order_0 13 rfl rfl)
theorem dX6_order_14 : decode cX6_order 14 = .ok (.if_icmp .eq 17, 3) := dk_159 0 17 (dk_at dksX6_order_0 14 rfl rfl)
theorem dX6_order_17 : decode cX6_order 17 = .ok (.aload_n 0, 1) := dk_42 (dk_at dksX6_order_0 17 rfl rfl)
theorem dX6_order_18 : decode cX6_order 18 = .ok (.iload_n 2, 1) := dk_28 (dk_at dksX6_order_0 18 rfl rfl)
theorem dX6_order_19 : decode cX6_order 19 = .ok (.invokevirtual 248, 3) := dk_182 0 248 (dk_at dksX6_order_0 19 rfl rfl)
theorem dX6_order_22 : decode cX6_order 22 = .ok (.ifCond .ne 9, 3) := dk_154 0 9 (dk_at dksX6_order_1 0 rfl rfl)
theorem dX6_order_25 : decode cX6_order 25 = .ok (.aload_n 0, 1) := dk_42 (dk_at dksX6_order_1 3 rfl rfl)
theorem dX6_order_26 : decode cX6_order 26 = .ok (.iconst 1, 1) := dk_4 (dk_at dksX6_order_1 4 rfl rfl)
theorem dX6_order_27 : decode cX6_order 27 = .ok (.invokevirtual 75, 3) := dk_182 0 75 (dk_at dksX6_order_1 5 rfl rfl)
theorem dX6_order_30 : decode cX6_order 30 = .ok (.ireturn, 1) := dk_172 (dk_at dksX6_order_1 8 rfl rfl)
theorem dX6_order_31 : decode cX6_order 31 = .ok (.aload_n 0, 1) := dk_42 (dk_at dksX6_order_1 9 rfl rfl)
theorem dX6_order_32 : decode cX6_order 32 = .ok (.getfield 7, 3) := dk_180 0 7 (dk_at dksX6_order_1 10 rfl rfl)
theorem dX6_order_35 : decode cX6_order 35 = .ok (.iconst 2, 1) := dk_5 (dk_at dksX6_order_1 13 rfl rfl)
theorem dX6_order_36 : decode cX6_order 36 = .ok (.iaload, 1) := dk_46 (dk_at dksX6_order_1 14 rfl rfl)
theorem dX6_order_37 : decode cX6_order 37 = .ok (.bipush 16, 2) := dk_16 16 (dk_at dksX6_order_1 15 rfl rfl)
theorem dX6_order_39 : decode cX6_order 39 = .ok (.if_icmp .ne 9, 3) := dk_160 0 9 (dk_at dksX6_order_1 17 rfl rfl)
theorem dX6_order_42 : decode cX6_order 42 = .ok (.aload_n 0, 1) := dk_42 (dk_at dksX6_order_1 20 rfl rfl)
theorem dX6_order_43 : decode cX6_order 43 = .ok (.iconst 4, 1) := dk_7 (dk_at dksX6_order_1 21 rfl rfl)
theorem dX6_order_44 : decode cX6_order 44 = .ok (.invokevirtual 75, 3) := dk_182 0 75 (dk_at dksX6_order_2 0 rfl rfl)
theorem dX6_order_47 : decode cX6_order 47 = .ok (.ireturn, 1) := dk_172 (dk_at dksX6_order_2 3 rfl rfl)
theorem dX6_order_48 : decode cX6_order 48 = .ok (.bipush 60, 2) := dk_16 60 (dk_at dksX6_order_2 4 rfl rfl)
theorem dX6_order_50 : decode cX6_order 50 = .ok (.iconst 2, 1) := dk_5 (dk_at dksX6_order_2 6 rfl rfl)
theorem dX6_order_51 : decode cX6_order 51 = .ok (.aload_n 0, 1) := dk_42 (dk_at dksX6_order_2 7 rfl rfl)
theorem dX6_order_52 : decode cX6_order 52 = .ok (.getfield 7, 3) := dk_180 0 7 (dk_at dksX6_order_2 8 rfl rfl)
theorem dX6_order_55 : decode cX6_order 55 = .ok (.iconst 2, 1) := dk_5 (dk_at dksX6_order_2 11 rfl rfl)
theorem dX6_order_56 : decode cX6_order 56 = .ok (.iaload, 1) := dk_46 (dk_at dksX6_order_2 12 rfl rfl)
theorem dX6_order_57 : decode cX6_order 57 = .ok (.imul, 1) := dk_104 (dk_at dksX6_order_2 13 rfl rfl)
theorem dX6_order_58 : decode cX6_order 58 = .ok (.iadd, 1) := dk_96 (dk_at dksX6_order_2 14 rfl rfl)
theorem dX6_order_59 : decode cX6_order 59 = .ok (.istore_n 3, 1) := dk_62 (dk_at dksX6_order_2 15 rfl rfl)
theorem dX6_order_60 : decode cX6_order 60 = .ok (.aload_n 0, 1) := dk_42 (dk_at dksX6_order_2 16 rfl rfl)
theorem dX6_order_61 : decode cX6_order 61 = .ok (.getfield 7, 3) := dk_180 0 7 (dk_at dksX6_order_2 17 rfl rfl)
theorem dX6_order_64 : decode cX6_order 64 = .ok (.iload_n 3, 1) := dk_29 (dk_at dksX6_order_2 20 rfl rfl)
theorem dX6_order_65 : decode cX6_order 65 = .ok (.iload_n 1, 1) := dk_27 (dk_at dksX6_order_2 21 rfl rfl)
theorem dX6_order_66 : decode cX6_order 66 = .ok (.iastore, 1) := dk_79 (dk_at dksX6_order_2 22 rfl rfl)
theorem dX6_order_67 : decode cX6_order 67 = .ok (.aload_n 0, 1) := dk_42 (dk_at dksX6_order_2 23 rfl rfl)
theorem dX6_order_68 : decode cX6_order 68 = .ok (.getfield 7, 3) := dk_180 0 7 (dk_at dksX6_order_3 0 rfl rfl)
theorem dX6_order_71 : decode cX6_order 71 = .ok (.iload_n 3, 1) := dk_29 (dk_at dksX6_order_3 3 rfl rfl)
theorem dX6_order_72 : decode cX6_order 72 = .ok (.iconst 1, 1) := dk_4 (dk_at dksX6_order_3 4 rfl rfl)
theorem dX6_order_73 : decode cX6_order 73 = .ok (.iadd, 1) := dk_96 (dk_at dksX6_order_3 5 rfl rfl)
theorem dX6_order_74 : decode cX6_order 74 = .ok (.iload_n 2, 1) := dk_28 (dk_at dksX6_order_3 6 rfl rfl)
theorem dX6_order_75 : decode cX6_order 75 = .ok (.iastore, 1) := dk_79 (dk_at dksX6_order_3 7 rfl rfl)
theorem dX6_order_76 : decode cX6_order 76 = .ok (.aload_n 0, 1) := dk_42 (dk_at dksX6_order_3 8 rfl rfl)
theorem dX6_order_77 : decode cX6_order 77 = .ok (.getfield 7, 3) := dk_180 0 7 (dk_at dksX6_order_3 9 rfl rfl)
theorem dX6_order_80 : decode cX6_order 80 = .ok (.iconst 2, 1) := dk_5 (dk_at dksX6_order_3 12 rfl rfl)
theorem dX6_order_81 : decode cX6_order 81 = .ok (.dup2, 1) := dk_92 (dk_at dksX6_order_3 13 rfl rfl)
theorem dX6_order_82 : decode cX6_order 82 = .ok (.iaload, 1) := dk_46 (dk_at dksX6_order_3 14 rfl rfl)
theorem dX6_order_83 : decode cX6_order 83 = .ok (.iconst 1, 1) := dk_4 (dk_at dksX6_order_3 15 rfl rfl)
theorem dX6_order_84 : decode cX6_order 84 = .ok (.iadd, 1) := dk_96 (dk_at dksX6_order_3 16 rfl rfl)
theorem dX6_order_85 : decode cX6_order 85 = .ok (.iastore, 1) := dk_79 (dk_at dksX6_order_3 17 rfl rfl)
theorem dX6_order_86 : decode cX6_order 86 = .ok (.aload_n 0, 1) := dk_42 (dk_at dksX6_order_3 18 rfl rfl)
theorem dX6_order_87 : decode cX6_order 87 = .ok (.aload_n 0, 1) := dk_42 (dk_at dksX6_order_3 19 rfl rfl)
theorem dX6_order_88 : decode cX6_order 88 = .ok (.getfield 7, 3) := dk_180 0 7 (dk_at dksX6_order_3 20 rfl rfl)
theorem dX6_order_91 : decode cX6_order 91 = .ok (.iconst 2, 1) := dk_5 (dk_at dksX6_order_3 23 rfl rfl)
theorem dX6_order_92 : decode cX6_order 92 = .ok (.iaload, 1) := dk_46 (dk_at dksX6_order_4 0 rfl rfl)
theorem dX6_order_93 : decode cX6_order 93 = .ok (.invokevirtual 79, 3) := dk_182 0 79 (dk_at dksX6_order_4 1 rfl rfl)
theorem dX6_order_96 : decode cX6_order 96 = .ok (.ireturn, 1) := dk_172 (dk_at dksX6_order_4 4 rfl rfl)
abbrev cX6_isFrom : ByteArray := prog_16_method_18_code
def yX6_isFrom : MethodName := ⟨RX6, "isFrom", "(JJJ)Z"⟩
def dkwX6_isFrom_0 : List UInt8 := [30, 32, 148, 155, 0, 14, 30, 22, 4, 148, 157, 0, 7, 4, 167, 0, 4, 3, 172]
abbrev dktX6_isFrom_0 : List UInt8 := dkwX6_isFrom_0 ++ []
theorem dksX6_isFrom_0 : cX6_isFrom.data.toList.drop 0 = dktX6_isFrom_0 := by decide +kernel
theorem dX6_isFrom_0 : decode cX6_isFrom 0 = .ok (.lload_n 0, 1) := dk_30 (dk_at dksX6_isFrom_0 0 rfl rfl)
theorem dX6_isFrom_1 : decode cX6_isFrom 1 = .ok (.lload_n 2, 1) := dk_32 (dk_at dksX6_isFrom_0 1 rfl rfl)
theorem dX6_isFrom_2 : decode cX6_isFrom 2 = .ok (.lcmp, 1) := dk_148 (dk_at dksX6_isFrom_0 2 rfl rfl)
theorem dX6_isFrom_3 : decode cX6_isFrom 3 = .ok (.ifCond .lt 14, 3) := dk_155 0 14 (dk_at dksX6_isFrom_0 3 rfl rfl)
theorem dX6_isFrom_6 : decode cX6_isFrom 6 = .ok (.lload_n 0, 1) := dk_30 (dk_at dksX6_isFrom_0 6 rfl rfl)
theorem dX6_isFrom_7 : decode cX6_isFrom 7 = .ok (.lload 4, 2) := dk_22 4 (dk_at dksX6_isFrom_0 7 rfl rfl)
theorem dX6_isFrom_9 : decode cX6_isFrom 9 = .ok (.lcmp, 1) := dk_148 (dk_at dksX6_isFrom_0 9 rfl rfl)
theorem dX6_isFrom_10 : decode cX6_isFrom 10 = .ok (.ifCond .gt 7, 3) := dk_157 0 7 (dk_at dksX6_isFrom_0 10 rfl rfl)
theorem dX6_isFrom_13 : decode cX6_isFrom 13 = .ok (.iconst 1, 1) := dk_4 (dk_at dksX6_isFrom_0 13 rfl rfl)
theorem dX6_isFrom_14 : decode cX6_isFrom 14 = .ok (.goto 4, 3) := dk_167 0 4 (dk_at dksX6_isFrom_0 14 rfl rfl)
theorem dX6_isFrom_17 : decode cX6_isFrom 17 = .ok (.iconst 0, 1) := dk_3 (dk_at dksX6_isFrom_0 17 rfl rfl)
theorem dX6_isFrom_18 : decode cX6_isFrom 18 = .ok (.ireturn, 1) := dk_172 (dk_at dksX6_isFrom_0 18 rfl rfl)
abbrev cX6_strike : ByteArray := prog_16_method_80_code
def yX6_strike : MethodName := ⟨RX6, "strike", "()I"⟩
def dkwX6_strike_1 : List UInt8 := [100, 79, 42, 42, 180, 0, 7, 16, 60, 5, 42, 180, 0, 7, 5, 46, 104, 96, 46, 182, 0, 79, 172]
abbrev dktX6_strike_1 : List UInt8 := dkwX6_strike_1 ++ []
def dkwX6_strike_0 : List UInt8 := [42, 180, 0, 7, 5, 46, 154, 0, 10, 42, 16, 6, 182, 0, 75, 172, 42, 180, 0, 7, 5, 92, 46, 4]
abbrev dktX6_strike_0 : List UInt8 := dkwX6_strike_0 ++ dktX6_strike_1
theorem dksX6_strike_0 : cX6_strike.data.toList.drop 0 = dktX6_strike_0 := by decide +kernel
theorem dksX6_strike_1 : cX6_strike.data.toList.drop 24 = dktX6_strike_1 := dk_seg dksX6_strike_0 24 rfl rfl
theorem dX6_strike_0 : decode cX6_strike 0 = .ok (.aload_n 0, 1) := dk_42 (dk_at dksX6_strike_0 0 rfl rfl)
theorem dX6_strike_1 : decode cX6_strike 1 = .ok (.getfield 7, 3) := dk_180 0 7 (dk_at dksX6_strike_0 1 rfl rfl)
theorem dX6_strike_4 : decode cX6_strike 4 = .ok (.iconst 2, 1) := dk_5 (dk_at dksX6_strike_0 4 rfl rfl)
theorem dX6_strike_5 : decode cX6_strike 5 = .ok (.iaload, 1) := dk_46 (dk_at dksX6_strike_0 5 rfl rfl)
theorem dX6_strike_6 : decode cX6_strike 6 = .ok (.ifCond .ne 10, 3) := dk_154 0 10 (dk_at dksX6_strike_0 6 rfl rfl)
theorem dX6_strike_9 : decode cX6_strike 9 = .ok (.aload_n 0, 1) := dk_42 (dk_at dksX6_strike_0 9 rfl rfl)
theorem dX6_strike_10 : decode cX6_strike 10 = .ok (.bipush 6, 2) := dk_16 6 (dk_at dksX6_strike_0 10 rfl rfl)
theorem dX6_strike_12 : decode cX6_strike 12 = .ok (.invokevirtual 75, 3) := dk_182 0 75 (dk_at dksX6_strike_0 12 rfl rfl)
theorem dX6_strike_15 : decode cX6_strike 15 = .ok (.ireturn, 1) := dk_172 (dk_at dksX6_strike_0 15 rfl rfl)
theorem dX6_strike_16 : decode cX6_strike 16 = .ok (.aload_n 0, 1) := dk_42 (dk_at dksX6_strike_0 16 rfl rfl)
theorem dX6_strike_17 : decode cX6_strike 17 = .ok (.getfield 7, 3) := dk_180 0 7 (dk_at dksX6_strike_0 17 rfl rfl)
theorem dX6_strike_20 : decode cX6_strike 20 = .ok (.iconst 2, 1) := dk_5 (dk_at dksX6_strike_0 20 rfl rfl)
theorem dX6_strike_21 : decode cX6_strike 21 = .ok (.dup2, 1) := dk_92 (dk_at dksX6_strike_0 21 rfl rfl)
theorem dX6_strike_22 : decode cX6_strike 22 = .ok (.iaload, 1) := dk_46 (dk_at dksX6_strike_0 22 rfl rfl)
theorem dX6_strike_23 : decode cX6_strike 23 = .ok (.iconst 1, 1) := dk_4 (dk_at dksX6_strike_0 23 rfl rfl)
theorem dX6_strike_24 : decode cX6_strike 24 = .ok (.isub, 1) := dk_100 (dk_at dksX6_strike_1 0 rfl rfl)
theorem dX6_strike_25 : decode cX6_strike 25 = .ok (.iastore, 1) := dk_79 (dk_at dksX6_strike_1 1 rfl rfl)
theorem dX6_strike_26 : decode cX6_strike 26 = .ok (.aload_n 0, 1) := dk_42 (dk_at dksX6_strike_1 2 rfl rfl)
theorem dX6_strike_27 : decode cX6_strike 27 = .ok (.aload_n 0, 1) := dk_42 (dk_at dksX6_strike_1 3 rfl rfl)
theorem dX6_strike_28 : decode cX6_strike 28 = .ok (.getfield 7, 3) := dk_180 0 7 (dk_at dksX6_strike_1 4 rfl rfl)
theorem dX6_strike_31 : decode cX6_strike 31 = .ok (.bipush 60, 2) := dk_16 60 (dk_at dksX6_strike_1 7 rfl rfl)
theorem dX6_strike_33 : decode cX6_strike 33 = .ok (.iconst 2, 1) := dk_5 (dk_at dksX6_strike_1 9 rfl rfl)
theorem dX6_strike_34 : decode cX6_strike 34 = .ok (.aload_n 0, 1) := dk_42 (dk_at dksX6_strike_1 10 rfl rfl)
theorem dX6_strike_35 : decode cX6_strike 35 = .ok (.getfield 7, 3) := dk_180 0 7 (dk_at dksX6_strike_1 11 rfl rfl)
theorem dX6_strike_38 : decode cX6_strike 38 = .ok (.iconst 2, 1) := dk_5 (dk_at dksX6_strike_1 14 rfl rfl)
theorem dX6_strike_39 : decode cX6_strike 39 = .ok (.iaload, 1) := dk_46 (dk_at dksX6_strike_1 15 rfl rfl)
theorem dX6_strike_40 : decode cX6_strike 40 = .ok (.imul, 1) := dk_104 (dk_at dksX6_strike_1 16 rfl rfl)
theorem dX6_strike_41 : decode cX6_strike 41 = .ok (.iadd, 1) := dk_96 (dk_at dksX6_strike_1 17 rfl rfl)
theorem dX6_strike_42 : decode cX6_strike 42 = .ok (.iaload, 1) := dk_46 (dk_at dksX6_strike_1 18 rfl rfl)
theorem dX6_strike_43 : decode cX6_strike 43 = .ok (.invokevirtual 79, 3) := dk_182 0 79 (dk_at dksX6_strike_1 19 rfl rfl)
theorem dX6_strike_46 : decode cX6_strike 46 = .ok (.ireturn, 1) := dk_172 (dk_at dksX6_strike_1 22 rfl rfl)
abbrev cX6_split : ByteArray := prog_16_method_81_code
def yX6_split : MethodName := ⟨RX6, "split", "(I)Z"⟩
def dkwX6_split_1 : List UInt8 := [182, 0, 82, 172]
abbrev dktX6_split_1 : List UInt8 := dkwX6_split_1 ++ []
def dkwX6_split_0 : List UInt8 := [27, 184, 1, 38, 154, 0, 9, 42, 4, 182, 0, 82, 172, 42, 180, 0, 7, 6, 27, 79, 42, 3]
abbrev dktX6_split_0 : List UInt8 := dkwX6_split_0 ++ dktX6_split_1
theorem dksX6_split_0 : cX6_split.data.toList.drop 0 = dktX6_split_0 := by decide +kernel
theorem dksX6_split_1 : cX6_split.data.toList.drop 22 = dktX6_split_1 := dk_seg dksX6_split_0 22 rfl rfl
theorem dX6_split_0 : decode cX6_split 0 = .ok (.iload_n 1, 1) := dk_27 (dk_at dksX6_split_0 0 rfl rfl)
theorem dX6_split_1 : decode cX6_split 1 = .ok (.invokestatic 294, 3) := dk_184 1 38 (dk_at dksX6_split_0 1 rfl rfl)
theorem dX6_split_4 : decode cX6_split 4 = .ok (.ifCond .ne 9, 3) := dk_154 0 9 (dk_at dksX6_split_0 4 rfl rfl)
theorem dX6_split_7 : decode cX6_split 7 = .ok (.aload_n 0, 1) := dk_42 (dk_at dksX6_split_0 7 rfl rfl)
theorem dX6_split_8 : decode cX6_split 8 = .ok (.iconst 1, 1) := dk_4 (dk_at dksX6_split_0 8 rfl rfl)
theorem dX6_split_9 : decode cX6_split 9 = .ok (.invokevirtual 82, 3) := dk_182 0 82 (dk_at dksX6_split_0 9 rfl rfl)
theorem dX6_split_12 : decode cX6_split 12 = .ok (.ireturn, 1) := dk_172 (dk_at dksX6_split_0 12 rfl rfl)
theorem dX6_split_13 : decode cX6_split 13 = .ok (.aload_n 0, 1) := dk_42 (dk_at dksX6_split_0 13 rfl rfl)
theorem dX6_split_14 : decode cX6_split 14 = .ok (.getfield 7, 3) := dk_180 0 7 (dk_at dksX6_split_0 14 rfl rfl)
theorem dX6_split_17 : decode cX6_split 17 = .ok (.iconst 3, 1) := dk_6 (dk_at dksX6_split_0 17 rfl rfl)
theorem dX6_split_18 : decode cX6_split 18 = .ok (.iload_n 1, 1) := dk_27 (dk_at dksX6_split_0 18 rfl rfl)
theorem dX6_split_19 : decode cX6_split 19 = .ok (.iastore, 1) := dk_79 (dk_at dksX6_split_0 19 rfl rfl)
theorem dX6_split_20 : decode cX6_split 20 = .ok (.aload_n 0, 1) := dk_42 (dk_at dksX6_split_0 20 rfl rfl)
theorem dX6_split_21 : decode cX6_split 21 = .ok (.iconst 0, 1) := dk_3 (dk_at dksX6_split_0 21 rfl rfl)
theorem dX6_split_22 : decode cX6_split 22 = .ok (.invokevirtual 82, 3) := dk_182 0 82 (dk_at dksX6_split_1 0 rfl rfl)
theorem dX6_split_25 : decode cX6_split 25 = .ok (.ireturn, 1) := dk_172 (dk_at dksX6_split_1 3 rfl rfl)
abbrev cX6_law : ByteArray := prog_16_method_82_code
def yX6_law : MethodName := ⟨RX6, "law", "(I)Z"⟩
def dkwX6_law_1 : List UInt8 := [79, 42, 3, 182, 0, 82, 172]
abbrev dktX6_law_1 : List UInt8 := dkwX6_law_1 ++ []
def dkwX6_law_0 : List UInt8 := [27, 133, 9, 20, 1, 50, 184, 1, 46, 154, 0, 9, 42, 4, 182, 0, 82, 172, 42, 180, 0, 7, 7, 27]
abbrev dktX6_law_0 : List UInt8 := dkwX6_law_0 ++ dktX6_law_1
theorem dksX6_law_0 : cX6_law.data.toList.drop 0 = dktX6_law_0 := by decide +kernel
theorem dksX6_law_1 : cX6_law.data.toList.drop 24 = dktX6_law_1 := dk_seg dksX6_law_0 24 rfl rfl
theorem dX6_law_0 : decode cX6_law 0 = .ok (.iload_n 1, 1) := dk_27 (dk_at dksX6_law_0 0 rfl rfl)
theorem dX6_law_1 : decode cX6_law 1 = .ok (.i2l, 1) := dk_133 (dk_at dksX6_law_0 1 rfl rfl)
theorem dX6_law_2 : decode cX6_law 2 = .ok (.lconst 0, 1) := dk_9 (dk_at dksX6_law_0 2 rfl rfl)
theorem dX6_law_3 : decode cX6_law 3 = .ok (.ldc2_w 306, 3) := dk_20 1 50 (dk_at dksX6_law_0 3 rfl rfl)
theorem dX6_law_6 : decode cX6_law 6 = .ok (.invokestatic 302, 3) := dk_184 1 46 (dk_at dksX6_law_0 6 rfl rfl)
theorem dX6_law_9 : decode cX6_law 9 = .ok (.ifCond .ne 9, 3) := dk_154 0 9 (dk_at dksX6_law_0 9 rfl rfl)
theorem dX6_law_12 : decode cX6_law 12 = .ok (.aload_n 0, 1) := dk_42 (dk_at dksX6_law_0 12 rfl rfl)
theorem dX6_law_13 : decode cX6_law 13 = .ok (.iconst 1, 1) := dk_4 (dk_at dksX6_law_0 13 rfl rfl)
theorem dX6_law_14 : decode cX6_law 14 = .ok (.invokevirtual 82, 3) := dk_182 0 82 (dk_at dksX6_law_0 14 rfl rfl)
theorem dX6_law_17 : decode cX6_law 17 = .ok (.ireturn, 1) := dk_172 (dk_at dksX6_law_0 17 rfl rfl)
theorem dX6_law_18 : decode cX6_law 18 = .ok (.aload_n 0, 1) := dk_42 (dk_at dksX6_law_0 18 rfl rfl)
theorem dX6_law_19 : decode cX6_law 19 = .ok (.getfield 7, 3) := dk_180 0 7 (dk_at dksX6_law_0 19 rfl rfl)
theorem dX6_law_22 : decode cX6_law 22 = .ok (.iconst 4, 1) := dk_7 (dk_at dksX6_law_0 22 rfl rfl)
theorem dX6_law_23 : decode cX6_law 23 = .ok (.iload_n 1, 1) := dk_27 (dk_at dksX6_law_0 23 rfl rfl)
theorem dX6_law_24 : decode cX6_law 24 = .ok (.iastore, 1) := dk_79 (dk_at dksX6_law_1 0 rfl rfl)
theorem dX6_law_25 : decode cX6_law 25 = .ok (.aload_n 0, 1) := dk_42 (dk_at dksX6_law_1 1 rfl rfl)
theorem dX6_law_26 : decode cX6_law 26 = .ok (.iconst 0, 1) := dk_3 (dk_at dksX6_law_1 2 rfl rfl)
theorem dX6_law_27 : decode cX6_law 27 = .ok (.invokevirtual 82, 3) := dk_182 0 82 (dk_at dksX6_law_1 3 rfl rfl)
theorem dX6_law_30 : decode cX6_law 30 = .ok (.ireturn, 1) := dk_172 (dk_at dksX6_law_1 6 rfl rfl)
abbrev cX6_second : ByteArray := prog_16_method_83_code
def yX6_second : MethodName := ⟨RX6, "second", "(II)I"⟩
def dkwX6_second_8 : List UInt8 := [182, 0, 79, 172]
abbrev dktX6_second_8 : List UInt8 := dkwX6_second_8 ++ []
def dkwX6_second_7 : List UInt8 := [28, 154, 0, 11, 21, 4, 184, 0, 254, 167, 0, 14, 28, 4, 160, 0, 7, 29, 167, 0, 5, 21, 4]
abbrev dktX6_second_7 : List UInt8 := dkwX6_second_7 ++ dktX6_second_8
def dkwX6_second_6 : List UInt8 := [54, 4, 132, 5, 1, 167, 255, 150, 21, 4, 2, 160, 0, 12, 42, 16, 6, 182, 0, 75, 167, 0, 30, 42]
abbrev dktX6_second_6 : List UInt8 := dkwX6_second_6 ++ dktX6_second_7
def dkwX6_second_5 : List UInt8 := [132, 3, 1, 21, 4, 2, 159, 0, 16, 21, 5, 184, 0, 254, 21, 4, 184, 0, 254, 162, 0, 7, 21, 5]
abbrev dktX6_second_5 : List UInt8 := dkwX6_second_5 ++ dktX6_second_6
def dkwX6_second_4 : List UInt8 := [167, 0, 4, 3, 96, 54, 6, 132, 7, 1, 167, 255, 210, 21, 6, 27, 159, 0, 6, 167, 0, 29]
abbrev dktX6_second_4 : List UInt8 := dkwX6_second_4 ++ dktX6_second_5
def dkwX6_second_3 : List UInt8 := [21, 5, 21, 7, 182, 1, 14, 153, 0, 18, 42, 180, 0, 7, 16, 60, 5, 21, 7, 104, 96, 46]
abbrev dktX6_second_3 : List UInt8 := dkwX6_second_3 ++ dktX6_second_4
def dkwX6_second_2 : List UInt8 := [162, 0, 99, 3, 54, 6, 3, 54, 7, 21, 7, 42, 180, 0, 7, 5, 46, 162, 0, 41, 21, 6, 42]
abbrev dktX6_second_2 : List UInt8 := dkwX6_second_2 ++ dktX6_second_3
def dkwX6_second_1 : List UInt8 := [182, 0, 75, 172, 3, 62, 2, 54, 4, 4, 54, 5, 21, 5, 4, 42, 180, 0, 7, 5, 46, 120]
abbrev dktX6_second_1 : List UInt8 := dkwX6_second_1 ++ dktX6_second_2
def dkwX6_second_0 : List UInt8 := [27, 133, 10, 20, 1, 52, 184, 1, 46, 153, 0, 12, 28, 155, 0, 8, 28, 5, 164, 0, 9, 42, 4]
abbrev dktX6_second_0 : List UInt8 := dkwX6_second_0 ++ dktX6_second_1
theorem dksX6_second_0 : cX6_second.data.toList.drop 0 = dktX6_second_0 := by decide +kernel
theorem dksX6_second_1 : cX6_second.data.toList.drop 23 = dktX6_second_1 := dk_seg dksX6_second_0 23 rfl rfl
theorem dksX6_second_2 : cX6_second.data.toList.drop 45 = dktX6_second_2 := dk_seg dksX6_second_1 22 rfl rfl
theorem dksX6_second_3 : cX6_second.data.toList.drop 68 = dktX6_second_3 := dk_seg dksX6_second_2 23 rfl rfl
theorem dksX6_second_4 : cX6_second.data.toList.drop 90 = dktX6_second_4 := dk_seg dksX6_second_3 22 rfl rfl
theorem dksX6_second_5 : cX6_second.data.toList.drop 112 = dktX6_second_5 := dk_seg dksX6_second_4 22 rfl rfl
theorem dksX6_second_6 : cX6_second.data.toList.drop 136 = dktX6_second_6 := dk_seg dksX6_second_5 24 rfl rfl
theorem dksX6_second_7 : cX6_second.data.toList.drop 160 = dktX6_second_7 := dk_seg dksX6_second_6 24 rfl rfl
theorem dksX6_second_8 : cX6_second.data.toList.drop 183 = dktX6_second_8 := dk_seg dksX6_second_7 23 rfl rfl
theorem dX6_second_0 : decode cX6_second 0 = .ok (.iload_n 1, 1) := dk_27 (dk_at dksX6_second_0 0 rfl rfl)
theorem dX6_second_1 : decode cX6_second 1 = .ok (.i2l, 1) := dk_133 (dk_at dksX6_second_0 1 rfl rfl)
theorem dX6_second_2 : decode cX6_second 2 = .ok (.lconst 1, 1) := dk_10 (dk_at dksX6_second_0 2 rfl rfl)
theorem dX6_second_3 : decode cX6_second 3 = .ok (.ldc2_w 308, 3) := dk_20 1 52 (dk_at dksX6_second_0 3 rfl rfl)
theorem dX6_second_6 : decode cX6_second 6 = .ok (.invokestatic 302, 3) := dk_184 1 46 (dk_at dksX6_second_0 6 rfl rfl)
theorem dX6_second_9 : decode cX6_second 9 = .ok (.ifCond .eq 12, 3) := dk_153 0 12 (dk_at dksX6_second_0 9 rfl rfl)
theorem dX6_second_12 : decode cX6_second 12 = .ok (.iload_n 2, 1) := dk_28 (dk_at dksX6_second_0 12 rfl rfl)
theorem dX6_second_13 : decode cX6_second 13 = .ok (.ifCond .lt 8, 3) := dk_155 0 8 (dk_at dksX6_second_0 13 rfl rfl)
theorem dX6_second_16 : decode cX6_second 16 = .ok (.iload_n 2, 1) := dk_28 (dk_at dksX6_second_0 16 rfl rfl)
theorem dX6_second_17 : decode cX6_second 17 = .ok (.iconst 2, 1) := dk_5 (dk_at dksX6_second_0 17 rfl rfl)
theorem dX6_second_18 : decode cX6_second 18 = .ok (.if_icmp .le 9, 3) := dk_164 0 9 (dk_at dksX6_second_0 18 rfl rfl)
theorem dX6_second_21 : decode cX6_second 21 = .ok (.aload_n 0, 1) := dk_42 (dk_at dksX6_second_0 21 rfl rfl)
theorem dX6_second_22 : decode cX6_second 22 = .ok (.iconst 1, 1) := dk_4 (dk_at dksX6_second_0 22 rfl rfl)
theorem dX6_second_23 : decode cX6_second 23 = .ok (.invokevirtual 75, 3) := dk_182 0 75 (dk_at dksX6_second_1 0 rfl rfl)
theorem dX6_second_26 : decode cX6_second 26 = .ok (.ireturn, 1) := dk_172 (dk_at dksX6_second_1 3 rfl rfl)
theorem dX6_second_27 : decode cX6_second 27 = .ok (.iconst 0, 1) := dk_3 (dk_at dksX6_second_1 4 rfl rfl)
theorem dX6_second_28 : decode cX6_second 28 = .ok (.istore_n 3, 1) := dk_62 (dk_at dksX6_second_1 5 rfl rfl)
theorem dX6_second_29 : decode cX6_second 29 = .ok (.iconst (-1), 1) := dk_2 (dk_at dksX6_second_1 6 rfl rfl)
theorem dX6_second_30 : decode cX6_second 30 = .ok (.istore 4, 2) := dk_54 4 (dk_at dksX6_second_1 7 rfl rfl)
theorem dX6_second_32 : decode cX6_second 32 = .ok (.iconst 1, 1) := dk_4 (dk_at dksX6_second_1 9 rfl rfl)
theorem dX6_second_33 : decode cX6_second 33 = .ok (.istore 5, 2) := dk_54 5 (dk_at dksX6_second_1 10 rfl rfl)
theorem dX6_second_35 : decode cX6_second 35 = .ok (.iload 5, 2) := dk_21 5 (dk_at dksX6_second_1 12 rfl rfl)
theorem dX6_second_37 : decode cX6_second 37 = .ok (.iconst 1, 1) := dk_4 (dk_at dksX6_second_1 14 rfl rfl)
theorem dX6_second_38 : decode cX6_second 38 = .ok (.aload_n 0, 1) := dk_42 (dk_at dksX6_second_1 15 rfl rfl)
theorem dX6_second_39 : decode cX6_second 39 = .ok (.getfield 7, 3) := dk_180 0 7 (dk_at dksX6_second_1 16 rfl rfl)
theorem dX6_second_42 : decode cX6_second 42 = .ok (.iconst 2, 1) := dk_5 (dk_at dksX6_second_1 19 rfl rfl)
theorem dX6_second_43 : decode cX6_second 43 = .ok (.iaload, 1) := dk_46 (dk_at dksX6_second_1 20 rfl rfl)
theorem dX6_second_44 : decode cX6_second 44 = .ok (.ishl, 1) := dk_120 (dk_at dksX6_second_1 21 rfl rfl)
theorem dX6_second_45 : decode cX6_second 45 = .ok (.if_icmp .ge 99, 3) := dk_162 0 99 (dk_at dksX6_second_2 0 rfl rfl)
theorem dX6_second_48 : decode cX6_second 48 = .ok (.iconst 0, 1) := dk_3 (dk_at dksX6_second_2 3 rfl rfl)
theorem dX6_second_49 : decode cX6_second 49 = .ok (.istore 6, 2) := dk_54 6 (dk_at dksX6_second_2 4 rfl rfl)
theorem dX6_second_51 : decode cX6_second 51 = .ok (.iconst 0, 1) := dk_3 (dk_at dksX6_second_2 6 rfl rfl)
theorem dX6_second_52 : decode cX6_second 52 = .ok (.istore 7, 2) := dk_54 7 (dk_at dksX6_second_2 7 rfl rfl)
theorem dX6_second_54 : decode cX6_second 54 = .ok (.iload 7, 2) := dk_21 7 (dk_at dksX6_second_2 9 rfl rfl)
theorem dX6_second_56 : decode cX6_second 56 = .ok (.aload_n 0, 1) := dk_42 (dk_at dksX6_second_2 11 rfl rfl)
theorem dX6_second_57 : decode cX6_second 57 = .ok (.getfield 7, 3) := dk_180 0 7 (dk_at dksX6_second_2 12 rfl rfl)
theorem dX6_second_60 : decode cX6_second 60 = .ok (.iconst 2, 1) := dk_5 (dk_at dksX6_second_2 15 rfl rfl)
theorem dX6_second_61 : decode cX6_second 61 = .ok (.iaload, 1) := dk_46 (dk_at dksX6_second_2 16 rfl rfl)
theorem dX6_second_62 : decode cX6_second 62 = .ok (.if_icmp .ge 41, 3) := dk_162 0 41 (dk_at dksX6_second_2 17 rfl rfl)
theorem dX6_second_65 : decode cX6_second 65 = .ok (.iload 6, 2) := dk_21 6 (dk_at dksX6_second_2 20 rfl rfl)
theorem dX6_second_67 : decode cX6_second 67 = .ok (.aload_n 0, 1) := dk_42 (dk_at dksX6_second_2 22 rfl rfl)
theorem dX6_second_68 : decode cX6_second 68 = .ok (.iload 5, 2) := dk_21 5 (dk_at dksX6_second_3 0 rfl rfl)
theorem dX6_second_70 : decode cX6_second 70 = .ok (.iload 7, 2) := dk_21 7 (dk_at dksX6_second_3 2 rfl rfl)
theorem dX6_second_72 : decode cX6_second 72 = .ok (.invokevirtual 270, 3) := dk_182 1 14 (dk_at dksX6_second_3 4 rfl rfl)
theorem dX6_second_75 : decode cX6_second 75 = .ok (.ifCond .eq 18, 3) := dk_153 0 18 (dk_at dksX6_second_3 7 rfl rfl)
theorem dX6_second_78 : decode cX6_second 78 = .ok (.aload_n 0, 1) := dk_42 (dk_at dksX6_second_3 10 rfl rfl)
theorem dX6_second_79 : decode cX6_second 79 = .ok (.getfield 7, 3) := dk_180 0 7 (dk_at dksX6_second_3 11 rfl rfl)
theorem dX6_second_82 : decode cX6_second 82 = .ok (.bipush 60, 2) := dk_16 60 (dk_at dksX6_second_3 14 rfl rfl)
theorem dX6_second_84 : decode cX6_second 84 = .ok (.iconst 2, 1) := dk_5 (dk_at dksX6_second_3 16 rfl rfl)
theorem dX6_second_85 : decode cX6_second 85 = .ok (.iload 7, 2) := dk_21 7 (dk_at dksX6_second_3 17 rfl rfl)
theorem dX6_second_87 : decode cX6_second 87 = .ok (.imul, 1) := dk_104 (dk_at dksX6_second_3 19 rfl rfl)
theorem dX6_second_88 : decode cX6_second 88 = .ok (.iadd, 1) := dk_96 (dk_at dksX6_second_3 20 rfl rfl)
theorem dX6_second_89 : decode cX6_second 89 = .ok (.iaload, 1) := dk_46 (dk_at dksX6_second_3 21 rfl rfl)
theorem dX6_second_90 : decode cX6_second 90 = .ok (.goto 4, 3) := dk_167 0 4 (dk_at dksX6_second_4 0 rfl rfl)
theorem dX6_second_93 : decode cX6_second 93 = .ok (.iconst 0, 1) := dk_3 (dk_at dksX6_second_4 3 rfl rfl)
theorem dX6_second_94 : decode cX6_second 94 = .ok (.iadd, 1) := dk_96 (dk_at dksX6_second_4 4 rfl rfl)
theorem dX6_second_95 : decode cX6_second 95 = .ok (.istore 6, 2) := dk_54 6 (dk_at dksX6_second_4 5 rfl rfl)
theorem dX6_second_97 : decode cX6_second 97 = .ok (.iinc 7 1, 3) := dk_132 7 1 (dk_at dksX6_second_4 7 rfl rfl)
theorem dX6_second_100 : decode cX6_second 100 = .ok (.goto (-46), 3) := dk_167 255 210 (dk_at dksX6_second_4 10 rfl rfl)
theorem dX6_second_103 : decode cX6_second 103 = .ok (.iload 6, 2) := dk_21 6 (dk_at dksX6_second_4 13 rfl rfl)
theorem dX6_second_105 : decode cX6_second 105 = .ok (.iload_n 1, 1) := dk_27 (dk_at dksX6_second_4 15 rfl rfl)
theorem dX6_second_106 : decode cX6_second 106 = .ok (.if_icmp .eq 6, 3) := dk_159 0 6 (dk_at dksX6_second_4 16 rfl rfl)
theorem dX6_second_109 : decode cX6_second 109 = .ok (.goto 29, 3) := dk_167 0 29 (dk_at dksX6_second_4 19 rfl rfl)
theorem dX6_second_112 : decode cX6_second 112 = .ok (.iinc 3 1, 3) := dk_132 3 1 (dk_at dksX6_second_5 0 rfl rfl)
theorem dX6_second_115 : decode cX6_second 115 = .ok (.iload 4, 2) := dk_21 4 (dk_at dksX6_second_5 3 rfl rfl)
theorem dX6_second_117 : decode cX6_second 117 = .ok (.iconst (-1), 1) := dk_2 (dk_at dksX6_second_5 5 rfl rfl)
theorem dX6_second_118 : decode cX6_second 118 = .ok (.if_icmp .eq 16, 3) := dk_159 0 16 (dk_at dksX6_second_5 6 rfl rfl)
theorem dX6_second_121 : decode cX6_second 121 = .ok (.iload 5, 2) := dk_21 5 (dk_at dksX6_second_5 9 rfl rfl)
theorem dX6_second_123 : decode cX6_second 123 = .ok (.invokestatic 254, 3) := dk_184 0 254 (dk_at dksX6_second_5 11 rfl rfl)
theorem dX6_second_126 : decode cX6_second 126 = .ok (.iload 4, 2) := dk_21 4 (dk_at dksX6_second_5 14 rfl rfl)
theorem dX6_second_128 : decode cX6_second 128 = .ok (.invokestatic 254, 3) := dk_184 0 254 (dk_at dksX6_second_5 16 rfl rfl)
theorem dX6_second_131 : decode cX6_second 131 = .ok (.if_icmp .ge 7, 3) := dk_162 0 7 (dk_at dksX6_second_5 19 rfl rfl)
theorem dX6_second_134 : decode cX6_second 134 = .ok (.iload 5, 2) := dk_21 5 (dk_at dksX6_second_5 22 rfl rfl)
theorem dX6_second_136 : decode cX6_second 136 = .ok (.istore 4, 2) := dk_54 4 (dk_at dksX6_second_6 0 rfl rfl)
theorem dX6_second_138 : decode cX6_second 138 = .ok (.iinc 5 1, 3) := dk_132 5 1 (dk_at dksX6_second_6 2 rfl rfl)
theorem dX6_second_141 : decode cX6_second 141 = .ok (.goto (-106), 3) := dk_167 255 150 (dk_at dksX6_second_6 5 rfl rfl)
theorem dX6_second_144 : decode cX6_second 144 = .ok (.iload 4, 2) := dk_21 4 (dk_at dksX6_second_6 8 rfl rfl)
theorem dX6_second_146 : decode cX6_second 146 = .ok (.iconst (-1), 1) := dk_2 (dk_at dksX6_second_6 10 rfl rfl)
theorem dX6_second_147 : decode cX6_second 147 = .ok (.if_icmp .ne 12, 3) := dk_160 0 12 (dk_at dksX6_second_6 11 rfl rfl)
theorem dX6_second_150 : decode cX6_second 150 = .ok (.aload_n 0, 1) := dk_42 (dk_at dksX6_second_6 14 rfl rfl)
theorem dX6_second_151 : decode cX6_second 151 = .ok (.bipush 6, 2) := dk_16 6 (dk_at dksX6_second_6 15 rfl rfl)
theorem dX6_second_153 : decode cX6_second 153 = .ok (.invokevirtual 75, 3) := dk_182 0 75 (dk_at dksX6_second_6 17 rfl rfl)
theorem dX6_second_156 : decode cX6_second 156 = .ok (.goto 30, 3) := dk_167 0 30 (dk_at dksX6_second_6 20 rfl rfl)
theorem dX6_second_159 : decode cX6_second 159 = .ok (.aload_n 0, 1) := dk_42 (dk_at dksX6_second_6 23 rfl rfl)
theorem dX6_second_160 : decode cX6_second 160 = .ok (.iload_n 2, 1) := dk_28 (dk_at dksX6_second_7 0 rfl rfl)
theorem dX6_second_161 : decode cX6_second 161 = .ok (.ifCond .ne 11, 3) := dk_154 0 11 (dk_at dksX6_second_7 1 rfl rfl)
theorem dX6_second_164 : decode cX6_second 164 = .ok (.iload 4, 2) := dk_21 4 (dk_at dksX6_second_7 4 rfl rfl)
theorem dX6_second_166 : decode cX6_second 166 = .ok (.invokestatic 254, 3) := dk_184 0 254 (dk_at dksX6_second_7 6 rfl rfl)
theorem dX6_second_169 : decode cX6_second 169 = .ok (.goto 14, 3) := dk_167 0 14 (dk_at dksX6_second_7 9 rfl rfl)
theorem dX6_second_172 : decode cX6_second 172 = .ok (.iload_n 2, 1) := dk_28 (dk_at dksX6_second_7 12 rfl rfl)
theorem dX6_second_173 : decode cX6_second 173 = .ok (.iconst 1, 1) := dk_4 (dk_at dksX6_second_7 13 rfl rfl)
theorem dX6_second_174 : decode cX6_second 174 = .ok (.if_icmp .ne 7, 3) := dk_160 0 7 (dk_at dksX6_second_7 14 rfl rfl)
theorem dX6_second_177 : decode cX6_second 177 = .ok (.iload_n 3, 1) := dk_29 (dk_at dksX6_second_7 17 rfl rfl)
theorem dX6_second_178 : decode cX6_second 178 = .ok (.goto 5, 3) := dk_167 0 5 (dk_at dksX6_second_7 18 rfl rfl)
theorem dX6_second_181 : decode cX6_second 181 = .ok (.iload 4, 2) := dk_21 4 (dk_at dksX6_second_7 21 rfl rfl)
theorem dX6_second_183 : decode cX6_second 183 = .ok (.invokevirtual 79, 3) := dk_182 0 79 (dk_at dksX6_second_8 0 rfl rfl)
theorem dX6_second_186 : decode cX6_second 186 = .ok (.ireturn, 1) := dk_172 (dk_at dksX6_second_8 3 rfl rfl)
abbrev cX6_padded : ByteArray := prog_16_method_84_code
def yX6_padded : MethodName := ⟨RX6, "padded", "(I)I"⟩
def dkwX6_padded_1 : List UInt8 := [167, 0, 8, 42, 4, 182, 0, 75, 172]
abbrev dktX6_padded_1 : List UInt8 := dkwX6_padded_1 ++ []
def dkwX6_padded_0 : List UInt8 := [27, 133, 9, 20, 1, 54, 184, 1, 46, 153, 0, 16, 42, 27, 42, 182, 1, 17, 100, 182, 0, 79]
abbrev dktX6_padded_0 : List UInt8 := dkwX6_padded_0 ++ dktX6_padded_1
theorem dksX6_padded_0 : cX6_padded.data.toList.drop 0 = dktX6_padded_0 := by decide +kernel
theorem dksX6_padded_1 : cX6_padded.data.toList.drop 22 = dktX6_padded_1 := dk_seg dksX6_padded_0 22 rfl rfl
theorem dX6_padded_0 : decode cX6_padded 0 = .ok (.iload_n 1, 1) := dk_27 (dk_at dksX6_padded_0 0 rfl rfl)
theorem dX6_padded_1 : decode cX6_padded 1 = .ok (.i2l, 1) := dk_133 (dk_at dksX6_padded_0 1 rfl rfl)
theorem dX6_padded_2 : decode cX6_padded 2 = .ok (.lconst 0, 1) := dk_9 (dk_at dksX6_padded_0 2 rfl rfl)
theorem dX6_padded_3 : decode cX6_padded 3 = .ok (.ldc2_w 310, 3) := dk_20 1 54 (dk_at dksX6_padded_0 3 rfl rfl)
theorem dX6_padded_6 : decode cX6_padded 6 = .ok (.invokestatic 302, 3) := dk_184 1 46 (dk_at dksX6_padded_0 6 rfl rfl)
theorem dX6_padded_9 : decode cX6_padded 9 = .ok (.ifCond .eq 16, 3) := dk_153 0 16 (dk_at dksX6_padded_0 9 rfl rfl)
theorem dX6_padded_12 : decode cX6_padded 12 = .ok (.aload_n 0, 1) := dk_42 (dk_at dksX6_padded_0 12 rfl rfl)
theorem dX6_padded_13 : decode cX6_padded 13 = .ok (.iload_n 1, 1) := dk_27 (dk_at dksX6_padded_0 13 rfl rfl)
theorem dX6_padded_14 : decode cX6_padded 14 = .ok (.aload_n 0, 1) := dk_42 (dk_at dksX6_padded_0 14 rfl rfl)
theorem dX6_padded_15 : decode cX6_padded 15 = .ok (.invokevirtual 273, 3) := dk_182 1 17 (dk_at dksX6_padded_0 15 rfl rfl)
theorem dX6_padded_18 : decode cX6_padded 18 = .ok (.isub, 1) := dk_100 (dk_at dksX6_padded_0 18 rfl rfl)
theorem dX6_padded_19 : decode cX6_padded 19 = .ok (.invokevirtual 79, 3) := dk_182 0 79 (dk_at dksX6_padded_0 19 rfl rfl)
theorem dX6_padded_22 : decode cX6_padded 22 = .ok (.goto 8, 3) := dk_167 0 8 (dk_at dksX6_padded_1 0 rfl rfl)
theorem dX6_padded_25 : decode cX6_padded 25 = .ok (.aload_n 0, 1) := dk_42 (dk_at dksX6_padded_1 3 rfl rfl)
theorem dX6_padded_26 : decode cX6_padded 26 = .ok (.iconst 1, 1) := dk_4 (dk_at dksX6_padded_1 4 rfl rfl)
theorem dX6_padded_27 : decode cX6_padded 27 = .ok (.invokevirtual 75, 3) := dk_182 0 75 (dk_at dksX6_padded_1 5 rfl rfl)
theorem dX6_padded_30 : decode cX6_padded 30 = .ok (.ireturn, 1) := dk_172 (dk_at dksX6_padded_1 8 rfl rfl)
abbrev cX6_pay : ByteArray := prog_16_method_86_code
def yX6_pay : MethodName := ⟨RX6, "pay", "(I)I"⟩
def dkwX6_pay_1 : List UInt8 := [180, 0, 7, 27, 184, 1, 11, 8, 96, 46, 182, 0, 79, 167, 0, 9, 42, 16, 7, 182, 0, 75, 172]
abbrev dktX6_pay_1 : List UInt8 := dkwX6_pay_1 ++ []
def dkwX6_pay_0 : List UInt8 := [42, 27, 182, 0, 248, 154, 0, 9, 42, 4, 182, 0, 75, 172, 42, 27, 182, 1, 60, 153, 0, 21, 42, 42]
abbrev dktX6_pay_0 : List UInt8 := dkwX6_pay_0 ++ dktX6_pay_1
theorem dksX6_pay_0 : cX6_pay.data.toList.drop 0 = dktX6_pay_0 := by decide +kernel
theorem dksX6_pay_1 : cX6_pay.data.toList.drop 24 = dktX6_pay_1 := dk_seg dksX6_pay_0 24 rfl rfl
theorem dX6_pay_0 : decode cX6_pay 0 = .ok (.aload_n 0, 1) := dk_42 (dk_at dksX6_pay_0 0 rfl rfl)
theorem dX6_pay_1 : decode cX6_pay 1 = .ok (.iload_n 1, 1) := dk_27 (dk_at dksX6_pay_0 1 rfl rfl)
theorem dX6_pay_2 : decode cX6_pay 2 = .ok (.invokevirtual 248, 3) := dk_182 0 248 (dk_at dksX6_pay_0 2 rfl rfl)
theorem dX6_pay_5 : decode cX6_pay 5 = .ok (.ifCond .ne 9, 3) := dk_154 0 9 (dk_at dksX6_pay_0 5 rfl rfl)
theorem dX6_pay_8 : decode cX6_pay 8 = .ok (.aload_n 0, 1) := dk_42 (dk_at dksX6_pay_0 8 rfl rfl)
theorem dX6_pay_9 : decode cX6_pay 9 = .ok (.iconst 1, 1) := dk_4 (dk_at dksX6_pay_0 9 rfl rfl)
theorem dX6_pay_10 : decode cX6_pay 10 = .ok (.invokevirtual 75, 3) := dk_182 0 75 (dk_at dksX6_pay_0 10 rfl rfl)
theorem dX6_pay_13 : decode cX6_pay 13 = .ok (.ireturn, 1) := dk_172 (dk_at dksX6_pay_0 13 rfl rfl)
theorem dX6_pay_14 : decode cX6_pay 14 = .ok (.aload_n 0, 1) := dk_42 (dk_at dksX6_pay_0 14 rfl rfl)
theorem dX6_pay_15 : decode cX6_pay 15 = .ok (.iload_n 1, 1) := dk_27 (dk_at dksX6_pay_0 15 rfl rfl)
theorem dX6_pay_16 : decode cX6_pay 16 = .ok (.invokevirtual 316, 3) := dk_182 1 60 (dk_at dksX6_pay_0 16 rfl rfl)
theorem dX6_pay_19 : decode cX6_pay 19 = .ok (.ifCond .eq 21, 3) := dk_153 0 21 (dk_at dksX6_pay_0 19 rfl rfl)
theorem dX6_pay_22 : decode cX6_pay 22 = .ok (.aload_n 0, 1) := dk_42 (dk_at dksX6_pay_0 22 rfl rfl)
theorem dX6_pay_23 : decode cX6_pay 23 = .ok (.aload_n 0, 1) := dk_42 (dk_at dksX6_pay_0 23 rfl rfl)
theorem dX6_pay_24 : decode cX6_pay 24 = .ok (.getfield 7, 3) := dk_180 0 7 (dk_at dksX6_pay_1 0 rfl rfl)
theorem dX6_pay_27 : decode cX6_pay 27 = .ok (.iload_n 1, 1) := dk_27 (dk_at dksX6_pay_1 3 rfl rfl)
theorem dX6_pay_28 : decode cX6_pay 28 = .ok (.invokestatic 267, 3) := dk_184 1 11 (dk_at dksX6_pay_1 4 rfl rfl)
theorem dX6_pay_31 : decode cX6_pay 31 = .ok (.iconst 5, 1) := dk_8 (dk_at dksX6_pay_1 7 rfl rfl)
theorem dX6_pay_32 : decode cX6_pay 32 = .ok (.iadd, 1) := dk_96 (dk_at dksX6_pay_1 8 rfl rfl)
theorem dX6_pay_33 : decode cX6_pay 33 = .ok (.iaload, 1) := dk_46 (dk_at dksX6_pay_1 9 rfl rfl)
theorem dX6_pay_34 : decode cX6_pay 34 = .ok (.invokevirtual 79, 3) := dk_182 0 79 (dk_at dksX6_pay_1 10 rfl rfl)
theorem dX6_pay_37 : decode cX6_pay 37 = .ok (.goto 9, 3) := dk_167 0 9 (dk_at dksX6_pay_1 13 rfl rfl)
theorem dX6_pay_40 : decode cX6_pay 40 = .ok (.aload_n 0, 1) := dk_42 (dk_at dksX6_pay_1 16 rfl rfl)
theorem dX6_pay_41 : decode cX6_pay 41 = .ok (.bipush 7, 2) := dk_16 7 (dk_at dksX6_pay_1 17 rfl rfl)
theorem dX6_pay_43 : decode cX6_pay 43 = .ok (.invokevirtual 75, 3) := dk_182 0 75 (dk_at dksX6_pay_1 19 rfl rfl)
theorem dX6_pay_46 : decode cX6_pay 46 = .ok (.ireturn, 1) := dk_172 (dk_at dksX6_pay_1 22 rfl rfl)
abbrev cX6_pays : ByteArray := prog_16_method_85_code
def yX6_pays : MethodName := ⟨RX6, "pays", "(I)Z"⟩
def dkwX6_pays_4 : List UInt8 := [132, 2, 1, 167, 255, 214, 42, 180, 0, 7, 27, 184, 1, 11, 8, 96, 92, 46, 4, 96, 79, 4, 172]
abbrev dktX6_pays_4 : List UInt8 := dkwX6_pays_4 ++ []
def dkwX6_pays_3 : List UInt8 := [180, 0, 7, 28, 27, 184, 1, 56, 92, 46, 42, 28, 42, 180, 0, 7, 6, 46, 182, 1, 26, 96, 79]
abbrev dktX6_pays_3 : List UInt8 := dkwX6_pays_3 ++ dktX6_pays_4
def dkwX6_pays_2 : List UInt8 := [132, 2, 1, 167, 255, 208, 3, 61, 28, 42, 180, 0, 7, 3, 46, 162, 0, 38, 28, 27, 159, 0, 27, 42]
abbrev dktX6_pays_2 : List UInt8 := dkwX6_pays_2 ++ dktX6_pays_3
def dkwX6_pays_1 : List UInt8 := [184, 1, 56, 46, 42, 28, 42, 180, 0, 7, 6, 46, 182, 1, 26, 96, 19, 1, 59, 164, 0, 5, 3, 172]
abbrev dktX6_pays_1 : List UInt8 := dkwX6_pays_1 ++ dktX6_pays_2
def dkwX6_pays_0 : List UInt8 := [3, 61, 28, 42, 180, 0, 7, 3, 46, 162, 0, 44, 28, 27, 159, 0, 33, 42, 180, 0, 7, 28, 27]
abbrev dktX6_pays_0 : List UInt8 := dkwX6_pays_0 ++ dktX6_pays_1
theorem dksX6_pays_0 : cX6_pays.data.toList.drop 0 = dktX6_pays_0 := by decide +kernel
theorem dksX6_pays_1 : cX6_pays.data.toList.drop 23 = dktX6_pays_1 := dk_seg dksX6_pays_0 23 rfl rfl
theorem dksX6_pays_2 : cX6_pays.data.toList.drop 47 = dktX6_pays_2 := dk_seg dksX6_pays_1 24 rfl rfl
theorem dksX6_pays_3 : cX6_pays.data.toList.drop 71 = dktX6_pays_3 := dk_seg dksX6_pays_2 24 rfl rfl
theorem dksX6_pays_4 : cX6_pays.data.toList.drop 94 = dktX6_pays_4 := dk_seg dksX6_pays_3 23 rfl rfl
theorem dX6_pays_0 : decode cX6_pays 0 = .ok (.iconst 0, 1) := dk_3 (dk_at dksX6_pays_0 0 rfl rfl)
theorem dX6_pays_1 : decode cX6_pays 1 = .ok (.istore_n 2, 1) := dk_61 (dk_at dksX6_pays_0 1 rfl rfl)
theorem dX6_pays_2 : decode cX6_pays 2 = .ok (.iload_n 2, 1) := dk_28 (dk_at dksX6_pays_0 2 rfl rfl)
theorem dX6_pays_3 : decode cX6_pays 3 = .ok (.aload_n 0, 1) := dk_42 (dk_at dksX6_pays_0 3 rfl rfl)
theorem dX6_pays_4 : decode cX6_pays 4 = .ok (.getfield 7, 3) := dk_180 0 7 (dk_at dksX6_pays_0 4 rfl rfl)
theorem dX6_pays_7 : decode cX6_pays 7 = .ok (.iconst 0, 1) := dk_3 (dk_at dksX6_pays_0 7 rfl rfl)
theorem dX6_pays_8 : decode cX6_pays 8 = .ok (.iaload, 1) := dk_46 (dk_at dksX6_pays_0 8 rfl rfl)
theorem dX6_pays_9 : decode cX6_pays 9 = .ok (.if_icmp .ge 44, 3) := dk_162 0 44 (dk_at dksX6_pays_0 9 rfl rfl)
theorem dX6_pays_12 : decode cX6_pays 12 = .ok (.iload_n 2, 1) := dk_28 (dk_at dksX6_pays_0 12 rfl rfl)
theorem dX6_pays_13 : decode cX6_pays 13 = .ok (.iload_n 1, 1) := dk_27 (dk_at dksX6_pays_0 13 rfl rfl)
theorem dX6_pays_14 : decode cX6_pays 14 = .ok (.if_icmp .eq 33, 3) := dk_159 0 33 (dk_at dksX6_pays_0 14 rfl rfl)
theorem dX6_pays_17 : decode cX6_pays 17 = .ok (.aload_n 0, 1) := dk_42 (dk_at dksX6_pays_0 17 rfl rfl)
theorem dX6_pays_18 : decode cX6_pays 18 = .ok (.getfield 7, 3) := dk_180 0 7 (dk_at dksX6_pays_0 18 rfl rfl)
theorem dX6_pays_21 : decode cX6_pays 21 = .ok (.iload_n 2, 1) := dk_28 (dk_at dksX6_pays_0 21 rfl rfl)
theorem dX6_pays_22 : decode cX6_pays 22 = .ok (.iload_n 1, 1) := dk_27 (dk_at dksX6_pays_0 22 rfl rfl)
theorem dX6_pays_23 : decode cX6_pays 23 = .ok (.invokestatic 312, 3) := dk_184 1 56 (dk_at dksX6_pays_1 0 rfl rfl)
theorem dX6_pays_26 : decode cX6_pays 26 = .ok (.iaload, 1) := dk_46 (dk_at dksX6_pays_1 3 rfl rfl)
theorem dX6_pays_27 : decode cX6_pays 27 = .ok (.aload_n 0, 1) := dk_42 (dk_at dksX6_pays_1 4 rfl rfl)
theorem dX6_pays_28 : decode cX6_pays 28 = .ok (.iload_n 2, 1) := dk_28 (dk_at dksX6_pays_1 5 rfl rfl)
theorem dX6_pays_29 : decode cX6_pays 29 = .ok (.aload_n 0, 1) := dk_42 (dk_at dksX6_pays_1 6 rfl rfl)
theorem dX6_pays_30 : decode cX6_pays 30 = .ok (.getfield 7, 3) := dk_180 0 7 (dk_at dksX6_pays_1 7 rfl rfl)
theorem dX6_pays_33 : decode cX6_pays 33 = .ok (.iconst 3, 1) := dk_6 (dk_at dksX6_pays_1 10 rfl rfl)
theorem dX6_pays_34 : decode cX6_pays 34 = .ok (.iaload, 1) := dk_46 (dk_at dksX6_pays_1 11 rfl rfl)
theorem dX6_pays_35 : decode cX6_pays 35 = .ok (.invokevirtual 282, 3) := dk_182 1 26 (dk_at dksX6_pays_1 12 rfl rfl)
theorem dX6_pays_38 : decode cX6_pays 38 = .ok (.iadd, 1) := dk_96 (dk_at dksX6_pays_1 15 rfl rfl)
theorem dX6_pays_39 : decode cX6_pays 39 = .ok (.ldc_w 315, 3) := dk_19 1 59 (dk_at dksX6_pays_1 16 rfl rfl)
theorem dX6_pays_42 : decode cX6_pays 42 = .ok (.if_icmp .le 5, 3) := dk_164 0 5 (dk_at dksX6_pays_1 19 rfl rfl)
theorem dX6_pays_45 : decode cX6_pays 45 = .ok (.iconst 0, 1) := dk_3 (dk_at dksX6_pays_1 22 rfl rfl)
theorem dX6_pays_46 : decode cX6_pays 46 = .ok (.ireturn, 1) := dk_172 (dk_at dksX6_pays_1 23 rfl rfl)
theorem dX6_pays_47 : decode cX6_pays 47 = .ok (.iinc 2 1, 3) := dk_132 2 1 (dk_at dksX6_pays_2 0 rfl rfl)
theorem dX6_pays_50 : decode cX6_pays 50 = .ok (.goto (-48), 3) := dk_167 255 208 (dk_at dksX6_pays_2 3 rfl rfl)
theorem dX6_pays_53 : decode cX6_pays 53 = .ok (.iconst 0, 1) := dk_3 (dk_at dksX6_pays_2 6 rfl rfl)
theorem dX6_pays_54 : decode cX6_pays 54 = .ok (.istore_n 2, 1) := dk_61 (dk_at dksX6_pays_2 7 rfl rfl)
theorem dX6_pays_55 : decode cX6_pays 55 = .ok (.iload_n 2, 1) := dk_28 (dk_at dksX6_pays_2 8 rfl rfl)
theorem dX6_pays_56 : decode cX6_pays 56 = .ok (.aload_n 0, 1) := dk_42 (dk_at dksX6_pays_2 9 rfl rfl)
theorem dX6_pays_57 : decode cX6_pays 57 = .ok (.getfield 7, 3) := dk_180 0 7 (dk_at dksX6_pays_2 10 rfl rfl)
theorem dX6_pays_60 : decode cX6_pays 60 = .ok (.iconst 0, 1) := dk_3 (dk_at dksX6_pays_2 13 rfl rfl)
theorem dX6_pays_61 : decode cX6_pays 61 = .ok (.iaload, 1) := dk_46 (dk_at dksX6_pays_2 14 rfl rfl)
theorem dX6_pays_62 : decode cX6_pays 62 = .ok (.if_icmp .ge 38, 3) := dk_162 0 38 (dk_at dksX6_pays_2 15 rfl rfl)
theorem dX6_pays_65 : decode cX6_pays 65 = .ok (.iload_n 2, 1) := dk_28 (dk_at dksX6_pays_2 18 rfl rfl)
theorem dX6_pays_66 : decode cX6_pays 66 = .ok (.iload_n 1, 1) := dk_27 (dk_at dksX6_pays_2 19 rfl rfl)
theorem dX6_pays_67 : decode cX6_pays 67 = .ok (.if_icmp .eq 27, 3) := dk_159 0 27 (dk_at dksX6_pays_2 20 rfl rfl)
theorem dX6_pays_70 : decode cX6_pays 70 = .ok (.aload_n 0, 1) := dk_42 (dk_at dksX6_pays_2 23 rfl rfl)
theorem dX6_pays_71 : decode cX6_pays 71 = .ok (.getfield 7, 3) := dk_180 0 7 (dk_at dksX6_pays_3 0 rfl rfl)
theorem dX6_pays_74 : decode cX6_pays 74 = .ok (.iload_n 2, 1) := dk_28 (dk_at dksX6_pays_3 3 rfl rfl)
theorem dX6_pays_75 : decode cX6_pays 75 = .ok (.iload_n 1, 1) := dk_27 (dk_at dksX6_pays_3 4 rfl rfl)
theorem dX6_pays_76 : decode cX6_pays 76 = .ok (.invokestatic 312, 3) := dk_184 1 56 (dk_at dksX6_pays_3 5 rfl rfl)
theorem dX6_pays_79 : decode cX6_pays 79 = .ok (.dup2, 1) := dk_92 (dk_at dksX6_pays_3 8 rfl rfl)
theorem dX6_pays_80 : decode cX6_pays 80 = .ok (.iaload, 1) := dk_46 (dk_at dksX6_pays_3 9 rfl rfl)
theorem dX6_pays_81 : decode cX6_pays 81 = .ok (.aload_n 0, 1) := dk_42 (dk_at dksX6_pays_3 10 rfl rfl)
theorem dX6_pays_82 : decode cX6_pays 82 = .ok (.iload_n 2, 1) := dk_28 (dk_at dksX6_pays_3 11 rfl rfl)
theorem dX6_pays_83 : decode cX6_pays 83 = .ok (.aload_n 0, 1) := dk_42 (dk_at dksX6_pays_3 12 rfl rfl)
theorem dX6_pays_84 : decode cX6_pays 84 = .ok (.getfield 7, 3) := dk_180 0 7 (dk_at dksX6_pays_3 13 rfl rfl)
theorem dX6_pays_87 : decode cX6_pays 87 = .ok (.iconst 3, 1) := dk_6 (dk_at dksX6_pays_3 16 rfl rfl)
theorem dX6_pays_88 : decode cX6_pays 88 = .ok (.iaload, 1) := dk_46 (dk_at dksX6_pays_3 17 rfl rfl)
theorem dX6_pays_89 : decode cX6_pays 89 = .ok (.invokevirtual 282, 3) := dk_182 1 26 (dk_at dksX6_pays_3 18 rfl rfl)
theorem dX6_pays_92 : decode cX6_pays 92 = .ok (.iadd, 1) := dk_96 (dk_at dksX6_pays_3 21 rfl rfl)
theorem dX6_pays_93 : decode cX6_pays 93 = .ok (.iastore, 1) := dk_79 (dk_at dksX6_pays_3 22 rfl rfl)
theorem dX6_pays_94 : decode cX6_pays 94 = .ok (.iinc 2 1, 3) := dk_132 2 1 (dk_at dksX6_pays_4 0 rfl rfl)
theorem dX6_pays_97 : decode cX6_pays 97 = .ok (.goto (-42), 3) := dk_167 255 214 (dk_at dksX6_pays_4 3 rfl rfl)
theorem dX6_pays_100 : decode cX6_pays 100 = .ok (.aload_n 0, 1) := dk_42 (dk_at dksX6_pays_4 6 rfl rfl)
theorem dX6_pays_101 : decode cX6_pays 101 = .ok (.getfield 7, 3) := dk_180 0 7 (dk_at dksX6_pays_4 7 rfl rfl)
theorem dX6_pays_104 : decode cX6_pays 104 = .ok (.iload_n 1, 1) := dk_27 (dk_at dksX6_pays_4 10 rfl rfl)
theorem dX6_pays_105 : decode cX6_pays 105 = .ok (.invokestatic 267, 3) := dk_184 1 11 (dk_at dksX6_pays_4 11 rfl rfl)
theorem dX6_pays_108 : decode cX6_pays 108 = .ok (.iconst 5, 1) := dk_8 (dk_at dksX6_pays_4 14 rfl rfl)
theorem dX6_pays_109 : decode cX6_pays 109 = .ok (.iadd, 1) := dk_96 (dk_at dksX6_pays_4 15 rfl rfl)
theorem dX6_pays_110 : decode cX6_pays 110 = .ok (.dup2, 1) := dk_92 (dk_at dksX6_pays_4 16 rfl rfl)
theorem dX6_pays_111 : decode cX6_pays 111 = .ok (.iaload, 1) := dk_46 (dk_at dksX6_pays_4 17 rfl rfl)
theorem dX6_pays_112 : decode cX6_pays 112 = .ok (.iconst 1, 1) := dk_4 (dk_at dksX6_pays_4 18 rfl rfl)
theorem dX6_pays_113 : decode cX6_pays 113 = .ok (.iadd, 1) := dk_96 (dk_at dksX6_pays_4 19 rfl rfl)
theorem dX6_pays_114 : decode cX6_pays 114 = .ok (.iastore, 1) := dk_79 (dk_at dksX6_pays_4 20 rfl rfl)
theorem dX6_pays_115 : decode cX6_pays 115 = .ok (.iconst 1, 1) := dk_4 (dk_at dksX6_pays_4 21 rfl rfl)
theorem dX6_pays_116 : decode cX6_pays 116 = .ok (.ireturn, 1) := dk_172 (dk_at dksX6_pays_4 22 rfl rfl)
abbrev cX6_debtRow : ByteArray := prog_16_method_54_code
def yX6_debtRow : MethodName := ⟨RX6, "debtRow", "(II)I"⟩
def dkwX6_debtRow_0 : List UInt8 := [16, 92, 16, 6, 26, 104, 96, 27, 96, 172]
abbrev dktX6_debtRow_0 : List UInt8 := dkwX6_debtRow_0 ++ []
theorem dksX6_debtRow_0 : cX6_debtRow.data.toList.drop 0 = dktX6_debtRow_0 := by decide +kernel
theorem dX6_debtRow_0 : decode cX6_debtRow 0 = .ok (.bipush 92, 2) := dk_16 92 (dk_at dksX6_debtRow_0 0 rfl rfl)
theorem dX6_debtRow_2 : decode cX6_debtRow 2 = .ok (.bipush 6, 2) := dk_16 6 (dk_at dksX6_debtRow_0 2 rfl rfl)
theorem dX6_debtRow_4 : decode cX6_debtRow 4 = .ok (.iload_n 0, 1) := dk_26 (dk_at dksX6_debtRow_0 4 rfl rfl)
theorem dX6_debtRow_5 : decode cX6_debtRow 5 = .ok (.imul, 1) := dk_104 (dk_at dksX6_debtRow_0 5 rfl rfl)
theorem dX6_debtRow_6 : decode cX6_debtRow 6 = .ok (.iadd, 1) := dk_96 (dk_at dksX6_debtRow_0 6 rfl rfl)
theorem dX6_debtRow_7 : decode cX6_debtRow 7 = .ok (.iload_n 1, 1) := dk_27 (dk_at dksX6_debtRow_0 7 rfl rfl)
theorem dX6_debtRow_8 : decode cX6_debtRow 8 = .ok (.iadd, 1) := dk_96 (dk_at dksX6_debtRow_0 8 rfl rfl)
theorem dX6_debtRow_9 : decode cX6_debtRow 9 = .ok (.ireturn, 1) := dk_172 (dk_at dksX6_debtRow_0 9 rfl rfl)
abbrev cX6_turn : ByteArray := prog_16_method_90_code
def yX6_turn : MethodName := ⟨RX6, "turn", "()I"⟩
def dkwX6_turn_0 : List UInt8 := [42, 42, 42, 180, 0, 7, 7, 46, 182, 1, 69, 182, 1, 35, 172]
abbrev dktX6_turn_0 : List UInt8 := dkwX6_turn_0 ++ []
theorem dksX6_turn_0 : cX6_turn.data.toList.drop 0 = dktX6_turn_0 := by decide +kernel
theorem dX6_turn_0 : decode cX6_turn 0 = .ok (.aload_n 0, 1) := dk_42 (dk_at dksX6_turn_0 0 rfl rfl)
theorem dX6_turn_1 : decode cX6_turn 1 = .ok (.aload_n 0, 1) := dk_42 (dk_at dksX6_turn_0 1 rfl rfl)
theorem dX6_turn_2 : decode cX6_turn 2 = .ok (.aload_n 0, 1) := dk_42 (dk_at dksX6_turn_0 2 rfl rfl)
theorem dX6_turn_3 : decode cX6_turn 3 = .ok (.getfield 7, 3) := dk_180 0 7 (dk_at dksX6_turn_0 3 rfl rfl)
theorem dX6_turn_6 : decode cX6_turn 6 = .ok (.iconst 4, 1) := dk_7 (dk_at dksX6_turn_0 6 rfl rfl)
theorem dX6_turn_7 : decode cX6_turn 7 = .ok (.iaload, 1) := dk_46 (dk_at dksX6_turn_0 7 rfl rfl)
theorem dX6_turn_8 : decode cX6_turn 8 = .ok (.invokevirtual 325, 3) := dk_182 1 69 (dk_at dksX6_turn_0 8 rfl rfl)
theorem dX6_turn_11 : decode cX6_turn 11 = .ok (.invokevirtual 291, 3) := dk_182 1 35 (dk_at dksX6_turn_0 11 rfl rfl)
theorem dX6_turn_14 : decode cX6_turn 14 = .ok (.ireturn, 1) := dk_172 (dk_at dksX6_turn_0 14 rfl rfl)
abbrev cX6_turnOf : ByteArray := prog_16_method_89_code
def yX6_turnOf : MethodName := ⟨RX6, "turnOf", "(I)I"⟩
def dkwX6_turnOf_2 : List UInt8 := [61, 132, 3, 1, 167, 255, 209, 28, 172]
abbrev dktX6_turnOf_2 : List UInt8 := dkwX6_turnOf_2 ++ []
def dkwX6_turnOf_1 : List UInt8 := [153, 0, 25, 28, 2, 159, 0, 18, 42, 29, 27, 182, 1, 66, 42, 28, 27, 182, 1, 66, 162, 0, 5, 29]
abbrev dktX6_turnOf_1 : List UInt8 := dkwX6_turnOf_1 ++ dktX6_turnOf_2
def dkwX6_turnOf_0 : List UInt8 := [2, 61, 3, 62, 29, 42, 180, 0, 7, 3, 46, 162, 0, 43, 42, 42, 182, 1, 8, 29, 182, 1, 14]
abbrev dktX6_turnOf_0 : List UInt8 := dkwX6_turnOf_0 ++ dktX6_turnOf_1
theorem dksX6_turnOf_0 : cX6_turnOf.data.toList.drop 0 = dktX6_turnOf_0 := by decide +kernel
theorem dksX6_turnOf_1 : cX6_turnOf.data.toList.drop 23 = dktX6_turnOf_1 := dk_seg dksX6_turnOf_0 23 rfl rfl
theorem dksX6_turnOf_2 : cX6_turnOf.data.toList.drop 47 = dktX6_turnOf_2 := dk_seg dksX6_turnOf_1 24 rfl rfl
theorem dX6_turnOf_0 : decode cX6_turnOf 0 = .ok (.iconst (-1), 1) := dk_2 (dk_at dksX6_turnOf_0 0 rfl rfl)
theorem dX6_turnOf_1 : decode cX6_turnOf 1 = .ok (.istore_n 2, 1) := dk_61 (dk_at dksX6_turnOf_0 1 rfl rfl)
theorem dX6_turnOf_2 : decode cX6_turnOf 2 = .ok (.iconst 0, 1) := dk_3 (dk_at dksX6_turnOf_0 2 rfl rfl)
theorem dX6_turnOf_3 : decode cX6_turnOf 3 = .ok (.istore_n 3, 1) := dk_62 (dk_at dksX6_turnOf_0 3 rfl rfl)
theorem dX6_turnOf_4 : decode cX6_turnOf 4 = .ok (.iload_n 3, 1) := dk_29 (dk_at dksX6_turnOf_0 4 rfl rfl)
theorem dX6_turnOf_5 : decode cX6_turnOf 5 = .ok (.aload_n 0, 1) := dk_42 (dk_at dksX6_turnOf_0 5 rfl rfl)
theorem dX6_turnOf_6 : decode cX6_turnOf 6 = .ok (.getfield 7, 3) := dk_180 0 7 (dk_at dksX6_turnOf_0 6 rfl rfl)
theorem dX6_turnOf_9 : decode cX6_turnOf 9 = .ok (.iconst 0, 1) := dk_3 (dk_at dksX6_turnOf_0 9 rfl rfl)
theorem dX6_turnOf_10 : decode cX6_turnOf 10 = .ok (.iaload, 1) := dk_46 (dk_at dksX6_turnOf_0 10 rfl rfl)
theorem dX6_turnOf_11 : decode cX6_turnOf 11 = .ok (.if_icmp .ge 43, 3) := dk_162 0 43 (dk_at dksX6_turnOf_0 11 rfl rfl)
theorem dX6_turnOf_14 : decode cX6_turnOf 14 = .ok (.aload_n 0, 1) := dk_42 (dk_at dksX6_turnOf_0 14 rfl rfl)
theorem dX6_turnOf_15 : decode cX6_turnOf 15 = .ok (.aload_n 0, 1) := dk_42 (dk_at dksX6_turnOf_0 15 rfl rfl)
theorem dX6_turnOf_16 : decode cX6_turnOf 16 = .ok (.invokevirtual 264, 3) := dk_182 1 8 (dk_at dksX6_turnOf_0 16 rfl rfl)
theorem dX6_turnOf_19 : decode cX6_turnOf 19 = .ok (.iload_n 3, 1) := dk_29 (dk_at dksX6_turnOf_0 19 rfl rfl)
theorem dX6_turnOf_20 : decode cX6_turnOf 20 = .ok (.invokevirtual 270, 3) := dk_182 1 14 (dk_at dksX6_turnOf_0 20 rfl rfl)
theorem dX6_turnOf_23 : decode cX6_turnOf 23 = .ok (.ifCond .eq 25, 3) := dk_153 0 25 (dk_at dksX6_turnOf_1 0 rfl rfl)
theorem dX6_turnOf_26 : decode cX6_turnOf 26 = .ok (.iload_n 2, 1) := dk_28 (dk_at dksX6_turnOf_1 3 rfl rfl)
theorem dX6_turnOf_27 : decode cX6_turnOf 27 = .ok (.iconst (-1), 1) := dk_2 (dk_at dksX6_turnOf_1 4 rfl rfl)
theorem dX6_turnOf_28 : decode cX6_turnOf 28 = .ok (.if_icmp .eq 18, 3) := dk_159 0 18 (dk_at dksX6_turnOf_1 5 rfl rfl)
theorem dX6_turnOf_31 : decode cX6_turnOf 31 = .ok (.aload_n 0, 1) := dk_42 (dk_at dksX6_turnOf_1 8 rfl rfl)
theorem dX6_turnOf_32 : decode cX6_turnOf 32 = .ok (.iload_n 3, 1) := dk_29 (dk_at dksX6_turnOf_1 9 rfl rfl)
theorem dX6_turnOf_33 : decode cX6_turnOf 33 = .ok (.iload_n 1, 1) := dk_27 (dk_at dksX6_turnOf_1 10 rfl rfl)
theorem dX6_turnOf_34 : decode cX6_turnOf 34 = .ok (.invokevirtual 322, 3) := dk_182 1 66 (dk_at dksX6_turnOf_1 11 rfl rfl)
theorem dX6_turnOf_37 : decode cX6_turnOf 37 = .ok (.aload_n 0, 1) := dk_42 (dk_at dksX6_turnOf_1 14 rfl rfl)
theorem dX6_turnOf_38 : decode cX6_turnOf 38 = .ok (.iload_n 2, 1) := dk_28 (dk_at dksX6_turnOf_1 15 rfl rfl)
theorem dX6_turnOf_39 : decode cX6_turnOf 39 = .ok (.iload_n 1, 1) := dk_27 (dk_at dksX6_turnOf_1 16 rfl rfl)
theorem dX6_turnOf_40 : decode cX6_turnOf 40 = .ok (.invokevirtual 322, 3) := dk_182 1 66 (dk_at dksX6_turnOf_1 17 rfl rfl)
theorem dX6_turnOf_43 : decode cX6_turnOf 43 = .ok (.if_icmp .ge 5, 3) := dk_162 0 5 (dk_at dksX6_turnOf_1 20 rfl rfl)
theorem dX6_turnOf_46 : decode cX6_turnOf 46 = .ok (.iload_n 3, 1) := dk_29 (dk_at dksX6_turnOf_1 23 rfl rfl)
theorem dX6_turnOf_47 : decode cX6_turnOf 47 = .ok (.istore_n 2, 1) := dk_61 (dk_at dksX6_turnOf_2 0 rfl rfl)
theorem dX6_turnOf_48 : decode cX6_turnOf 48 = .ok (.iinc 3 1, 3) := dk_132 3 1 (dk_at dksX6_turnOf_2 1 rfl rfl)
theorem dX6_turnOf_51 : decode cX6_turnOf 51 = .ok (.goto (-47), 3) := dk_167 255 209 (dk_at dksX6_turnOf_2 4 rfl rfl)
theorem dX6_turnOf_54 : decode cX6_turnOf 54 = .ok (.iload_n 2, 1) := dk_28 (dk_at dksX6_turnOf_2 7 rfl rfl)
theorem dX6_turnOf_55 : decode cX6_turnOf 55 = .ok (.ireturn, 1) := dk_172 (dk_at dksX6_turnOf_2 8 rfl rfl)
abbrev cX6_waits : ByteArray := prog_16_method_88_code
def yX6_waits : MethodName := ⟨RX6, "waits", "(II)I"⟩
def dkwX6_waits_2 : List UInt8 := [167, 0, 13, 42, 180, 0, 7, 27, 184, 1, 11, 46, 116, 172]
abbrev dktX6_waits_2 : List UInt8 := dkwX6_waits_2 ++ []
def dkwX6_waits_1 : List UInt8 := [27, 182, 1, 63, 167, 0, 33, 28, 5, 160, 0, 18, 42, 180, 0, 7, 27, 184, 1, 11, 4, 96, 46, 116]
abbrev dktX6_waits_1 : List UInt8 := dkwX6_waits_1 ++ dktX6_waits_2
def dkwX6_waits_0 : List UInt8 := [28, 154, 0, 17, 42, 180, 0, 7, 27, 184, 1, 11, 8, 96, 46, 167, 0, 46, 28, 4, 160, 0, 11, 42]
abbrev dktX6_waits_0 : List UInt8 := dkwX6_waits_0 ++ dktX6_waits_1
theorem dksX6_waits_0 : cX6_waits.data.toList.drop 0 = dktX6_waits_0 := by decide +kernel
theorem dksX6_waits_1 : cX6_waits.data.toList.drop 24 = dktX6_waits_1 := dk_seg dksX6_waits_0 24 rfl rfl
theorem dksX6_waits_2 : cX6_waits.data.toList.drop 48 = dktX6_waits_2 := dk_seg dksX6_waits_1 24 rfl rfl
theorem dX6_waits_0 : decode cX6_waits 0 = .ok (.iload_n 2, 1) := dk_28 (dk_at dksX6_waits_0 0 rfl rfl)
theorem dX6_waits_1 : decode cX6_waits 1 = .ok (.ifCond .ne 17, 3) := dk_154 0 17 (dk_at dksX6_waits_0 1 rfl rfl)
theorem dX6_waits_4 : decode cX6_waits 4 = .ok (.aload_n 0, 1) := dk_42 (dk_at dksX6_waits_0 4 rfl rfl)
theorem dX6_waits_5 : decode cX6_waits 5 = .ok (.getfield 7, 3) := dk_180 0 7 (dk_at dksX6_waits_0 5 rfl rfl)
theorem dX6_waits_8 : decode cX6_waits 8 = .ok (.iload_n 1, 1) := dk_27 (dk_at dksX6_waits_0 8 rfl rfl)
theorem dX6_waits_9 : decode cX6_waits 9 = .ok (.invokestatic 267, 3) := dk_184 1 11 (dk_at dksX6_waits_0 9 rfl rfl)
theorem dX6_waits_12 : decode cX6_waits 12 = .ok (.iconst 5, 1) := dk_8 (dk_at dksX6_waits_0 12 rfl rfl)
theorem dX6_waits_13 : decode cX6_waits 13 = .ok (.iadd, 1) := dk_96 (dk_at dksX6_waits_0 13 rfl rfl)
theorem dX6_waits_14 : decode cX6_waits 14 = .ok (.iaload, 1) := dk_46 (dk_at dksX6_waits_0 14 rfl rfl)
theorem dX6_waits_15 : decode cX6_waits 15 = .ok (.goto 46, 3) := dk_167 0 46 (dk_at dksX6_waits_0 15 rfl rfl)
theorem dX6_waits_18 : decode cX6_waits 18 = .ok (.iload_n 2, 1) := dk_28 (dk_at dksX6_waits_0 18 rfl rfl)
theorem dX6_waits_19 : decode cX6_waits 19 = .ok (.iconst 1, 1) := dk_4 (dk_at dksX6_waits_0 19 rfl rfl)
theorem dX6_waits_20 : decode cX6_waits 20 = .ok (.if_icmp .ne 11, 3) := dk_160 0 11 (dk_at dksX6_waits_0 20 rfl rfl)
theorem dX6_waits_23 : decode cX6_waits 23 = .ok (.aload_n 0, 1) := dk_42 (dk_at dksX6_waits_0 23 rfl rfl)
theorem dX6_waits_24 : decode cX6_waits 24 = .ok (.iload_n 1, 1) := dk_27 (dk_at dksX6_waits_1 0 rfl rfl)
theorem dX6_waits_25 : decode cX6_waits 25 = .ok (.invokevirtual 319, 3) := dk_182 1 63 (dk_at dksX6_waits_1 1 rfl rfl)
theorem dX6_waits_28 : decode cX6_waits 28 = .ok (.goto 33, 3) := dk_167 0 33 (dk_at dksX6_waits_1 4 rfl rfl)
theorem dX6_waits_31 : decode cX6_waits 31 = .ok (.iload_n 2, 1) := dk_28 (dk_at dksX6_waits_1 7 rfl rfl)
theorem dX6_waits_32 : decode cX6_waits 32 = .ok (.iconst 2, 1) := dk_5 (dk_at dksX6_waits_1 8 rfl rfl)
theorem dX6_waits_33 : decode cX6_waits 33 = .ok (.if_icmp .ne 18, 3) := dk_160 0 18 (dk_at dksX6_waits_1 9 rfl rfl)
theorem dX6_waits_36 : decode cX6_waits 36 = .ok (.aload_n 0, 1) := dk_42 (dk_at dksX6_waits_1 12 rfl rfl)
theorem dX6_waits_37 : decode cX6_waits 37 = .ok (.getfield 7, 3) := dk_180 0 7 (dk_at dksX6_waits_1 13 rfl rfl)
theorem dX6_waits_40 : decode cX6_waits 40 = .ok (.iload_n 1, 1) := dk_27 (dk_at dksX6_waits_1 16 rfl rfl)
theorem dX6_waits_41 : decode cX6_waits 41 = .ok (.invokestatic 267, 3) := dk_184 1 11 (dk_at dksX6_waits_1 17 rfl rfl)
theorem dX6_waits_44 : decode cX6_waits 44 = .ok (.iconst 1, 1) := dk_4 (dk_at dksX6_waits_1 20 rfl rfl)
theorem dX6_waits_45 : decode cX6_waits 45 = .ok (.iadd, 1) := dk_96 (dk_at dksX6_waits_1 21 rfl rfl)
theorem dX6_waits_46 : decode cX6_waits 46 = .ok (.iaload, 1) := dk_46 (dk_at dksX6_waits_1 22 rfl rfl)
theorem dX6_waits_47 : decode cX6_waits 47 = .ok (.ineg, 1) := dk_116 (dk_at dksX6_waits_1 23 rfl rfl)
theorem dX6_waits_48 : decode cX6_waits 48 = .ok (.goto 13, 3) := dk_167 0 13 (dk_at dksX6_waits_2 0 rfl rfl)
theorem dX6_waits_51 : decode cX6_waits 51 = .ok (.aload_n 0, 1) := dk_42 (dk_at dksX6_waits_2 3 rfl rfl)
theorem dX6_waits_52 : decode cX6_waits 52 = .ok (.getfield 7, 3) := dk_180 0 7 (dk_at dksX6_waits_2 4 rfl rfl)
theorem dX6_waits_55 : decode cX6_waits 55 = .ok (.iload_n 1, 1) := dk_27 (dk_at dksX6_waits_2 7 rfl rfl)
theorem dX6_waits_56 : decode cX6_waits 56 = .ok (.invokestatic 267, 3) := dk_184 1 11 (dk_at dksX6_waits_2 8 rfl rfl)
theorem dX6_waits_59 : decode cX6_waits 59 = .ok (.iaload, 1) := dk_46 (dk_at dksX6_waits_2 11 rfl rfl)
theorem dX6_waits_60 : decode cX6_waits 60 = .ok (.ineg, 1) := dk_116 (dk_at dksX6_waits_2 12 rfl rfl)
theorem dX6_waits_61 : decode cX6_waits 61 = .ok (.ireturn, 1) := dk_172 (dk_at dksX6_waits_2 13 rfl rfl)
abbrev cX6_balanceOf : ByteArray := prog_16_method_87_code
def yX6_balanceOf : MethodName := ⟨RX6, "balanceOf", "(I)I"⟩
def dkwX6_balanceOf_1 : List UInt8 := [46, 42, 180, 0, 7, 27, 29, 184, 1, 56, 46, 100, 96, 61, 132, 3, 1, 167, 255, 219, 28, 172]
abbrev dktX6_balanceOf_1 : List UInt8 := dkwX6_balanceOf_1 ++ []
def dkwX6_balanceOf_0 : List UInt8 := [3, 61, 3, 62, 29, 42, 180, 0, 7, 3, 46, 162, 0, 33, 28, 42, 180, 0, 7, 29, 27, 184, 1, 56]
abbrev dktX6_balanceOf_0 : List UInt8 := dkwX6_balanceOf_0 ++ dktX6_balanceOf_1
theorem dksX6_balanceOf_0 : cX6_balanceOf.data.toList.drop 0 = dktX6_balanceOf_0 := by decide +kernel
theorem dksX6_balanceOf_1 : cX6_balanceOf.data.toList.drop 24 = dktX6_balanceOf_1 := dk_seg dksX6_balanceOf_0 24 rfl rfl
theorem dX6_balanceOf_0 : decode cX6_balanceOf 0 = .ok (.iconst 0, 1) := dk_3 (dk_at dksX6_balanceOf_0 0 rfl rfl)
theorem dX6_balanceOf_1 : decode cX6_balanceOf 1 = .ok (.istore_n 2, 1) := dk_61 (dk_at dksX6_balanceOf_0 1 rfl rfl)
theorem dX6_balanceOf_2 : decode cX6_balanceOf 2 = .ok (.iconst 0, 1) := dk_3 (dk_at dksX6_balanceOf_0 2 rfl rfl)
theorem dX6_balanceOf_3 : decode cX6_balanceOf 3 = .ok (.istore_n 3, 1) := dk_62 (dk_at dksX6_balanceOf_0 3 rfl rfl)
theorem dX6_balanceOf_4 : decode cX6_balanceOf 4 = .ok (.iload_n 3, 1) := dk_29 (dk_at dksX6_balanceOf_0 4 rfl rfl)
theorem dX6_balanceOf_5 : decode cX6_balanceOf 5 = .ok (.aload_n 0, 1) := dk_42 (dk_at dksX6_balanceOf_0 5 rfl rfl)
theorem dX6_balanceOf_6 : decode cX6_balanceOf 6 = .ok (.getfield 7, 3) := dk_180 0 7 (dk_at dksX6_balanceOf_0 6 rfl rfl)
theorem dX6_balanceOf_9 : decode cX6_balanceOf 9 = .ok (.iconst 0, 1) := dk_3 (dk_at dksX6_balanceOf_0 9 rfl rfl)
theorem dX6_balanceOf_10 : decode cX6_balanceOf 10 = .ok (.iaload, 1) := dk_46 (dk_at dksX6_balanceOf_0 10 rfl rfl)
theorem dX6_balanceOf_11 : decode cX6_balanceOf 11 = .ok (.if_icmp .ge 33, 3) := dk_162 0 33 (dk_at dksX6_balanceOf_0 11 rfl rfl)
theorem dX6_balanceOf_14 : decode cX6_balanceOf 14 = .ok (.iload_n 2, 1) := dk_28 (dk_at dksX6_balanceOf_0 14 rfl rfl)
theorem dX6_balanceOf_15 : decode cX6_balanceOf 15 = .ok (.aload_n 0, 1) := dk_42 (dk_at dksX6_balanceOf_0 15 rfl rfl)
theorem dX6_balanceOf_16 : decode cX6_balanceOf 16 = .ok (.getfield 7, 3) := dk_180 0 7 (dk_at dksX6_balanceOf_0 16 rfl rfl)
theorem dX6_balanceOf_19 : decode cX6_balanceOf 19 = .ok (.iload_n 3, 1) := dk_29 (dk_at dksX6_balanceOf_0 19 rfl rfl)
theorem dX6_balanceOf_20 : decode cX6_balanceOf 20 = .ok (.iload_n 1, 1) := dk_27 (dk_at dksX6_balanceOf_0 20 rfl rfl)
theorem dX6_balanceOf_21 : decode cX6_balanceOf 21 = .ok (.invokestatic 312, 3) := dk_184 1 56 (dk_at dksX6_balanceOf_0 21 rfl rfl)
theorem dX6_balanceOf_24 : decode cX6_balanceOf 24 = .ok (.iaload, 1) := dk_46 (dk_at dksX6_balanceOf_1 0 rfl rfl)
theorem dX6_balanceOf_25 : decode cX6_balanceOf 25 = .ok (.aload_n 0, 1) := dk_42 (dk_at dksX6_balanceOf_1 1 rfl rfl)
theorem dX6_balanceOf_26 : decode cX6_balanceOf 26 = .ok (.getfield 7, 3) := dk_180 0 7 (dk_at dksX6_balanceOf_1 2 rfl rfl)
theorem dX6_balanceOf_29 : decode cX6_balanceOf 29 = .ok (.iload_n 1, 1) := dk_27 (dk_at dksX6_balanceOf_1 5 rfl rfl)
theorem dX6_balanceOf_30 : decode cX6_balanceOf 30 = .ok (.iload_n 3, 1) := dk_29 (dk_at dksX6_balanceOf_1 6 rfl rfl)
theorem dX6_balanceOf_31 : decode cX6_balanceOf 31 = .ok (.invokestatic 312, 3) := dk_184 1 56 (dk_at dksX6_balanceOf_1 7 rfl rfl)
theorem dX6_balanceOf_34 : decode cX6_balanceOf 34 = .ok (.iaload, 1) := dk_46 (dk_at dksX6_balanceOf_1 10 rfl rfl)
theorem dX6_balanceOf_35 : decode cX6_balanceOf 35 = .ok (.isub, 1) := dk_100 (dk_at dksX6_balanceOf_1 11 rfl rfl)
theorem dX6_balanceOf_36 : decode cX6_balanceOf 36 = .ok (.iadd, 1) := dk_96 (dk_at dksX6_balanceOf_1 12 rfl rfl)
theorem dX6_balanceOf_37 : decode cX6_balanceOf 37 = .ok (.istore_n 2, 1) := dk_61 (dk_at dksX6_balanceOf_1 13 rfl rfl)
theorem dX6_balanceOf_38 : decode cX6_balanceOf 38 = .ok (.iinc 3 1, 3) := dk_132 3 1 (dk_at dksX6_balanceOf_1 14 rfl rfl)
theorem dX6_balanceOf_41 : decode cX6_balanceOf 41 = .ok (.goto (-37), 3) := dk_167 255 219 (dk_at dksX6_balanceOf_1 17 rfl rfl)
theorem dX6_balanceOf_44 : decode cX6_balanceOf 44 = .ok (.iload_n 2, 1) := dk_28 (dk_at dksX6_balanceOf_1 20 rfl rfl)
theorem dX6_balanceOf_45 : decode cX6_balanceOf 45 = .ok (.ireturn, 1) := dk_172 (dk_at dksX6_balanceOf_1 21 rfl rfl)
abbrev cX6_turnBy : ByteArray := prog_16_method_91_code
def yX6_turnBy : MethodName := ⟨RX6, "turnBy", "(I)I"⟩
def dkwX6_turnBy_1 : List UInt8 := [42, 4, 182, 0, 75, 172]
abbrev dktX6_turnBy_1 : List UInt8 := dkwX6_turnBy_1 ++ []
def dkwX6_turnBy_0 : List UInt8 := [27, 133, 9, 20, 1, 50, 184, 1, 46, 153, 0, 15, 42, 42, 27, 182, 1, 69, 182, 1, 35, 167, 0, 8]
abbrev dktX6_turnBy_0 : List UInt8 := dkwX6_turnBy_0 ++ dktX6_turnBy_1
theorem dksX6_turnBy_0 : cX6_turnBy.data.toList.drop 0 = dktX6_turnBy_0 := by decide +kernel
theorem dksX6_turnBy_1 : cX6_turnBy.data.toList.drop 24 = dktX6_turnBy_1 := dk_seg dksX6_turnBy_0 24 rfl rfl
theorem dX6_turnBy_0 : decode cX6_turnBy 0 = .ok (.iload_n 1, 1) := dk_27 (dk_at dksX6_turnBy_0 0 rfl rfl)
theorem dX6_turnBy_1 : decode cX6_turnBy 1 = .ok (.i2l, 1) := dk_133 (dk_at dksX6_turnBy_0 1 rfl rfl)
theorem dX6_turnBy_2 : decode cX6_turnBy 2 = .ok (.lconst 0, 1) := dk_9 (dk_at dksX6_turnBy_0 2 rfl rfl)
theorem dX6_turnBy_3 : decode cX6_turnBy 3 = .ok (.ldc2_w 306, 3) := dk_20 1 50 (dk_at dksX6_turnBy_0 3 rfl rfl)
theorem dX6_turnBy_6 : decode cX6_turnBy 6 = .ok (.invokestatic 302, 3) := dk_184 1 46 (dk_at dksX6_turnBy_0 6 rfl rfl)
theorem dX6_turnBy_9 : decode cX6_turnBy 9 = .ok (.ifCond .eq 15, 3) := dk_153 0 15 (dk_at dksX6_turnBy_0 9 rfl rfl)
theorem dX6_turnBy_12 : decode cX6_turnBy 12 = .ok (.aload_n 0, 1) := dk_42 (dk_at dksX6_turnBy_0 12 rfl rfl)
theorem dX6_turnBy_13 : decode cX6_turnBy 13 = .ok (.aload_n 0, 1) := dk_42 (dk_at dksX6_turnBy_0 13 rfl rfl)
theorem dX6_turnBy_14 : decode cX6_turnBy 14 = .ok (.iload_n 1, 1) := dk_27 (dk_at dksX6_turnBy_0 14 rfl rfl)
theorem dX6_turnBy_15 : decode cX6_turnBy 15 = .ok (.invokevirtual 325, 3) := dk_182 1 69 (dk_at dksX6_turnBy_0 15 rfl rfl)
theorem dX6_turnBy_18 : decode cX6_turnBy 18 = .ok (.invokevirtual 291, 3) := dk_182 1 35 (dk_at dksX6_turnBy_0 18 rfl rfl)
theorem dX6_turnBy_21 : decode cX6_turnBy 21 = .ok (.goto 8, 3) := dk_167 0 8 (dk_at dksX6_turnBy_0 21 rfl rfl)
theorem dX6_turnBy_24 : decode cX6_turnBy 24 = .ok (.aload_n 0, 1) := dk_42 (dk_at dksX6_turnBy_1 0 rfl rfl)
theorem dX6_turnBy_25 : decode cX6_turnBy 25 = .ok (.iconst 1, 1) := dk_4 (dk_at dksX6_turnBy_1 1 rfl rfl)
theorem dX6_turnBy_26 : decode cX6_turnBy 26 = .ok (.invokevirtual 75, 3) := dk_182 0 75 (dk_at dksX6_turnBy_1 2 rfl rfl)
theorem dX6_turnBy_29 : decode cX6_turnBy 29 = .ok (.ireturn, 1) := dk_172 (dk_at dksX6_turnBy_1 5 rfl rfl)
abbrev cX6_duel : ByteArray := prog_16_method_96_code
def yX6_duel : MethodName := ⟨RX6, "duel", "(II)Z"⟩
def dkwX6_duel_2 : List UInt8 := [182, 1, 87, 172]
abbrev dktX6_duel_2 : List UInt8 := dkwX6_duel_2 ++ []
def dkwX6_duel_1 : List UInt8 := [42, 16, 6, 182, 0, 82, 167, 0, 21, 42, 42, 27, 28, 182, 1, 81, 133, 42, 27, 28, 182, 1, 84, 133]
abbrev dktX6_duel_1 : List UInt8 := dkwX6_duel_1 ++ dktX6_duel_2
def dkwX6_duel_0 : List UInt8 := [42, 27, 28, 182, 1, 75, 154, 0, 9, 42, 4, 182, 0, 82, 172, 42, 27, 28, 182, 1, 78, 153, 0, 12]
abbrev dktX6_duel_0 : List UInt8 := dkwX6_duel_0 ++ dktX6_duel_1
theorem dksX6_duel_0 : cX6_duel.data.toList.drop 0 = dktX6_duel_0 := by decide +kernel
theorem dksX6_duel_1 : cX6_duel.data.toList.drop 24 = dktX6_duel_1 := dk_seg dksX6_duel_0 24 rfl rfl
theorem dksX6_duel_2 : cX6_duel.data.toList.drop 48 = dktX6_duel_2 := dk_seg dksX6_duel_1 24 rfl rfl
theorem dX6_duel_0 : decode cX6_duel 0 = .ok (.aload_n 0, 1) := dk_42 (dk_at dksX6_duel_0 0 rfl rfl)
theorem dX6_duel_1 : decode cX6_duel 1 = .ok (.iload_n 1, 1) := dk_27 (dk_at dksX6_duel_0 1 rfl rfl)
theorem dX6_duel_2 : decode cX6_duel 2 = .ok (.iload_n 2, 1) := dk_28 (dk_at dksX6_duel_0 2 rfl rfl)
theorem dX6_duel_3 : decode cX6_duel 3 = .ok (.invokevirtual 331, 3) := dk_182 1 75 (dk_at dksX6_duel_0 3 rfl rfl)
theorem dX6_duel_6 : decode cX6_duel 6 = .ok (.ifCond .ne 9, 3) := dk_154 0 9 (dk_at dksX6_duel_0 6 rfl rfl)
theorem dX6_duel_9 : decode cX6_duel 9 = .ok (.aload_n 0, 1) := dk_42 (dk_at dksX6_duel_0 9 rfl rfl)
theorem dX6_duel_10 : decode cX6_duel 10 = .ok (.iconst 1, 1) := dk_4 (dk_at dksX6_duel_0 10 rfl rfl)
theorem dX6_duel_11 : decode cX6_duel 11 = .ok (.invokevirtual 82, 3) := dk_182 0 82 (dk_at dksX6_duel_0 11 rfl rfl)
theorem dX6_duel_14 : decode cX6_duel 14 = .ok (.ireturn, 1) := dk_172 (dk_at dksX6_duel_0 14 rfl rfl)
theorem dX6_duel_15 : decode cX6_duel 15 = .ok (.aload_n 0, 1) := dk_42 (dk_at dksX6_duel_0 15 rfl rfl)
theorem dX6_duel_16 : decode cX6_duel 16 = .ok (.iload_n 1, 1) := dk_27 (dk_at dksX6_duel_0 16 rfl rfl)
theorem dX6_duel_17 : decode cX6_duel 17 = .ok (.iload_n 2, 1) := dk_28 (dk_at dksX6_duel_0 17 rfl rfl)
theorem dX6_duel_18 : decode cX6_duel 18 = .ok (.invokevirtual 334, 3) := dk_182 1 78 (dk_at dksX6_duel_0 18 rfl rfl)
theorem dX6_duel_21 : decode cX6_duel 21 = .ok (.ifCond .eq 12, 3) := dk_153 0 12 (dk_at dksX6_duel_0 21 rfl rfl)
theorem dX6_duel_24 : decode cX6_duel 24 = .ok (.aload_n 0, 1) := dk_42 (dk_at dksX6_duel_1 0 rfl rfl)
theorem dX6_duel_25 : decode cX6_duel 25 = .ok (.bipush 6, 2) := dk_16 6 (dk_at dksX6_duel_1 1 rfl rfl)
theorem dX6_duel_27 : decode cX6_duel 27 = .ok (.invokevirtual 82, 3) := dk_182 0 82 (dk_at dksX6_duel_1 3 rfl rfl)
theorem dX6_duel_30 : decode cX6_duel 30 = .ok (.goto 21, 3) := dk_167 0 21 (dk_at dksX6_duel_1 6 rfl rfl)
theorem dX6_duel_33 : decode cX6_duel 33 = .ok (.aload_n 0, 1) := dk_42 (dk_at dksX6_duel_1 9 rfl rfl)
theorem dX6_duel_34 : decode cX6_duel 34 = .ok (.aload_n 0, 1) := dk_42 (dk_at dksX6_duel_1 10 rfl rfl)
theorem dX6_duel_35 : decode cX6_duel 35 = .ok (.iload_n 1, 1) := dk_27 (dk_at dksX6_duel_1 11 rfl rfl)
theorem dX6_duel_36 : decode cX6_duel 36 = .ok (.iload_n 2, 1) := dk_28 (dk_at dksX6_duel_1 12 rfl rfl)
theorem dX6_duel_37 : decode cX6_duel 37 = .ok (.invokevirtual 337, 3) := dk_182 1 81 (dk_at dksX6_duel_1 13 rfl rfl)
theorem dX6_duel_40 : decode cX6_duel 40 = .ok (.i2l, 1) := dk_133 (dk_at dksX6_duel_1 16 rfl rfl)
theorem dX6_duel_41 : decode cX6_duel 41 = .ok (.aload_n 0, 1) := dk_42 (dk_at dksX6_duel_1 17 rfl rfl)
theorem dX6_duel_42 : decode cX6_duel 42 = .ok (.iload_n 1, 1) := dk_27 (dk_at dksX6_duel_1 18 rfl rfl)
theorem dX6_duel_43 : decode cX6_duel 43 = .ok (.iload_n 2, 1) := dk_28 (dk_at dksX6_duel_1 19 rfl rfl)
theorem dX6_duel_44 : decode cX6_duel 44 = .ok (.invokevirtual 340, 3) := dk_182 1 84 (dk_at dksX6_duel_1 20 rfl rfl)
theorem dX6_duel_47 : decode cX6_duel 47 = .ok (.i2l, 1) := dk_133 (dk_at dksX6_duel_1 23 rfl rfl)
theorem dX6_duel_48 : decode cX6_duel 48 = .ok (.invokevirtual 343, 3) := dk_182 1 87 (dk_at dksX6_duel_2 0 rfl rfl)
theorem dX6_duel_51 : decode cX6_duel 51 = .ok (.ireturn, 1) := dk_172 (dk_at dksX6_duel_2 3 rfl rfl)
abbrev cX6_areTwo : ByteArray := prog_16_method_56_code
def yX6_areTwo : MethodName := ⟨RX6, "areTwo", "(II)Z"⟩
def dkwX6_areTwo_1 : List UInt8 := [167, 0, 4, 3, 172]
abbrev dktX6_areTwo_1 : List UInt8 := dkwX6_areTwo_1 ++ []
def dkwX6_areTwo_0 : List UInt8 := [42, 27, 182, 0, 248, 153, 0, 20, 42, 28, 182, 0, 248, 153, 0, 12, 27, 28, 159, 0, 7, 4]
abbrev dktX6_areTwo_0 : List UInt8 := dkwX6_areTwo_0 ++ dktX6_areTwo_1
theorem dksX6_areTwo_0 : cX6_areTwo.data.toList.drop 0 = dktX6_areTwo_0 := by decide +kernel
theorem dksX6_areTwo_1 : cX6_areTwo.data.toList.drop 22 = dktX6_areTwo_1 := dk_seg dksX6_areTwo_0 22 rfl rfl
theorem dX6_areTwo_0 : decode cX6_areTwo 0 = .ok (.aload_n 0, 1) := dk_42 (dk_at dksX6_areTwo_0 0 rfl rfl)
theorem dX6_areTwo_1 : decode cX6_areTwo 1 = .ok (.iload_n 1, 1) := dk_27 (dk_at dksX6_areTwo_0 1 rfl rfl)
theorem dX6_areTwo_2 : decode cX6_areTwo 2 = .ok (.invokevirtual 248, 3) := dk_182 0 248 (dk_at dksX6_areTwo_0 2 rfl rfl)
theorem dX6_areTwo_5 : decode cX6_areTwo 5 = .ok (.ifCond .eq 20, 3) := dk_153 0 20 (dk_at dksX6_areTwo_0 5 rfl rfl)
theorem dX6_areTwo_8 : decode cX6_areTwo 8 = .ok (.aload_n 0, 1) := dk_42 (dk_at dksX6_areTwo_0 8 rfl rfl)
theorem dX6_areTwo_9 : decode cX6_areTwo 9 = .ok (.iload_n 2, 1) := dk_28 (dk_at dksX6_areTwo_0 9 rfl rfl)
theorem dX6_areTwo_10 : decode cX6_areTwo 10 = .ok (.invokevirtual 248, 3) := dk_182 0 248 (dk_at dksX6_areTwo_0 10 rfl rfl)
theorem dX6_areTwo_13 : decode cX6_areTwo 13 = .ok (.ifCond .eq 12, 3) := dk_153 0 12 (dk_at dksX6_areTwo_0 13 rfl rfl)
theorem dX6_areTwo_16 : decode cX6_areTwo 16 = .ok (.iload_n 1, 1) := dk_27 (dk_at dksX6_areTwo_0 16 rfl rfl)
theorem dX6_areTwo_17 : decode cX6_areTwo 17 = .ok (.iload_n 2, 1) := dk_28 (dk_at dksX6_areTwo_0 17 rfl rfl)
theorem dX6_areTwo_18 : decode cX6_areTwo 18 = .ok (.if_icmp .eq 7, 3) := dk_159 0 7 (dk_at dksX6_areTwo_0 18 rfl rfl)
theorem dX6_areTwo_21 : decode cX6_areTwo 21 = .ok (.iconst 1, 1) := dk_4 (dk_at dksX6_areTwo_0 21 rfl rfl)
theorem dX6_areTwo_22 : decode cX6_areTwo 22 = .ok (.goto 4, 3) := dk_167 0 4 (dk_at dksX6_areTwo_1 0 rfl rfl)
theorem dX6_areTwo_25 : decode cX6_areTwo 25 = .ok (.iconst 0, 1) := dk_3 (dk_at dksX6_areTwo_1 3 rfl rfl)
theorem dX6_areTwo_26 : decode cX6_areTwo 26 = .ok (.ireturn, 1) := dk_172 (dk_at dksX6_areTwo_1 4 rfl rfl)
abbrev cX6_isEndless : ByteArray := prog_16_method_93_code
def yX6_isEndless : MethodName := ⟨RX6, "isEndless", "(II)Z"⟩
def dkwX6_isEndless_1 : List UInt8 := [3, 172]
abbrev dktX6_isEndless_1 : List UInt8 := dkwX6_isEndless_1 ++ []
def dkwX6_isEndless_0 : List UInt8 := [42, 27, 182, 1, 72, 16, 16, 160, 0, 17, 42, 28, 182, 1, 72, 16, 16, 160, 0, 7, 4, 167, 0, 4]
abbrev dktX6_isEndless_0 : List UInt8 := dkwX6_isEndless_0 ++ dktX6_isEndless_1
theorem dksX6_isEndless_0 : cX6_isEndless.data.toList.drop 0 = dktX6_isEndless_0 := by decide +kernel
theorem dksX6_isEndless_1 : cX6_isEndless.data.toList.drop 24 = dktX6_isEndless_1 := dk_seg dksX6_isEndless_0 24 rfl rfl
theorem dX6_isEndless_0 : decode cX6_isEndless 0 = .ok (.aload_n 0, 1) := dk_42 (dk_at dksX6_isEndless_0 0 rfl rfl)
theorem dX6_isEndless_1 : decode cX6_isEndless 1 = .ok (.iload_n 1, 1) := dk_27 (dk_at dksX6_isEndless_0 1 rfl rfl)
theorem dX6_isEndless_2 : decode cX6_isEndless 2 = .ok (.invokevirtual 328, 3) := dk_182 1 72 (dk_at dksX6_isEndless_0 2 rfl rfl)
theorem dX6_isEndless_5 : decode cX6_isEndless 5 = .ok (.bipush 16, 2) := dk_16 16 (dk_at dksX6_isEndless_0 5 rfl rfl)
theorem dX6_isEndless_7 : decode cX6_isEndless 7 = .ok (.if_icmp .ne 17, 3) := dk_160 0 17 (dk_at dksX6_isEndless_0 7 rfl rfl)
theorem dX6_isEndless_10 : decode cX6_isEndless 10 = .ok (.aload_n 0, 1) := dk_42 (dk_at dksX6_isEndless_0 10 rfl rfl)
theorem dX6_isEndless_11 : decode cX6_isEndless 11 = .ok (.iload_n 2, 1) := dk_28 (dk_at dksX6_isEndless_0 11 rfl rfl)
theorem dX6_isEndless_12 : decode cX6_isEndless 12 = .ok (.invokevirtual 328, 3) := dk_182 1 72 (dk_at dksX6_isEndless_0 12 rfl rfl)
theorem dX6_isEndless_15 : decode cX6_isEndless 15 = .ok (.bipush 16, 2) := dk_16 16 (dk_at dksX6_isEndless_0 15 rfl rfl)
theorem dX6_isEndless_17 : decode cX6_isEndless 17 = .ok (.if_icmp .ne 7, 3) := dk_160 0 7 (dk_at dksX6_isEndless_0 17 rfl rfl)
theorem dX6_isEndless_20 : decode cX6_isEndless 20 = .ok (.iconst 1, 1) := dk_4 (dk_at dksX6_isEndless_0 20 rfl rfl)
theorem dX6_isEndless_21 : decode cX6_isEndless 21 = .ok (.goto 4, 3) := dk_167 0 4 (dk_at dksX6_isEndless_0 21 rfl rfl)
theorem dX6_isEndless_24 : decode cX6_isEndless 24 = .ok (.iconst 0, 1) := dk_3 (dk_at dksX6_isEndless_1 0 rfl rfl)
theorem dX6_isEndless_25 : decode cX6_isEndless 25 = .ok (.ireturn, 1) := dk_172 (dk_at dksX6_isEndless_1 1 rfl rfl)
abbrev cX6_insists : ByteArray := prog_16_method_92_code
def yX6_insists : MethodName := ⟨RX6, "insists", "(I)I"⟩
def dkwX6_insists_0 : List UInt8 := [42, 180, 0, 7, 27, 184, 1, 11, 46, 172]
abbrev dktX6_insists_0 : List UInt8 := dkwX6_insists_0 ++ []
theorem dksX6_insists_0 : cX6_insists.data.toList.drop 0 = dktX6_insists_0 := by decide +kernel
theorem dX6_insists_0 : decode cX6_insists 0 = .ok (.aload_n 0, 1) := dk_42 (dk_at dksX6_insists_0 0 rfl rfl)
theorem dX6_insists_1 : decode cX6_insists 1 = .ok (.getfield 7, 3) := dk_180 0 7 (dk_at dksX6_insists_0 1 rfl rfl)
theorem dX6_insists_4 : decode cX6_insists 4 = .ok (.iload_n 1, 1) := dk_27 (dk_at dksX6_insists_0 4 rfl rfl)
theorem dX6_insists_5 : decode cX6_insists 5 = .ok (.invokestatic 267, 3) := dk_184 1 11 (dk_at dksX6_insists_0 5 rfl rfl)
theorem dX6_insists_8 : decode cX6_insists 8 = .ok (.iaload, 1) := dk_46 (dk_at dksX6_insists_0 8 rfl rfl)
theorem dX6_insists_9 : decode cX6_insists 9 = .ok (.ireturn, 1) := dk_172 (dk_at dksX6_insists_0 9 rfl rfl)
abbrev cX6_first : ByteArray := prog_16_method_94_code
def yX6_first : MethodName := ⟨RX6, "first", "(II)I"⟩
def dkwX6_first_0 : List UInt8 := [42, 27, 182, 1, 72, 16, 16, 42, 28, 182, 1, 72, 100, 104, 172]
abbrev dktX6_first_0 : List UInt8 := dkwX6_first_0 ++ []
theorem dksX6_first_0 : cX6_first.data.toList.drop 0 = dktX6_first_0 := by decide +kernel
theorem dX6_first_0 : decode cX6_first 0 = .ok (.aload_n 0, 1) := dk_42 (dk_at dksX6_first_0 0 rfl rfl)
theorem dX6_first_1 : decode cX6_first 1 = .ok (.iload_n 1, 1) := dk_27 (dk_at dksX6_first_0 1 rfl rfl)
theorem dX6_first_2 : decode cX6_first 2 = .ok (.invokevirtual 328, 3) := dk_182 1 72 (dk_at dksX6_first_0 2 rfl rfl)
theorem dX6_first_5 : decode cX6_first 5 = .ok (.bipush 16, 2) := dk_16 16 (dk_at dksX6_first_0 5 rfl rfl)
theorem dX6_first_7 : decode cX6_first 7 = .ok (.aload_n 0, 1) := dk_42 (dk_at dksX6_first_0 7 rfl rfl)
theorem dX6_first_8 : decode cX6_first 8 = .ok (.iload_n 2, 1) := dk_28 (dk_at dksX6_first_0 8 rfl rfl)
theorem dX6_first_9 : decode cX6_first 9 = .ok (.invokevirtual 328, 3) := dk_182 1 72 (dk_at dksX6_first_0 9 rfl rfl)
theorem dX6_first_12 : decode cX6_first 12 = .ok (.isub, 1) := dk_100 (dk_at dksX6_first_0 12 rfl rfl)
theorem dX6_first_13 : decode cX6_first 13 = .ok (.imul, 1) := dk_104 (dk_at dksX6_first_0 13 rfl rfl)
theorem dX6_first_14 : decode cX6_first 14 = .ok (.ireturn, 1) := dk_172 (dk_at dksX6_first_0 14 rfl rfl)
abbrev cX6_behind : ByteArray := prog_16_method_95_code
def yX6_behind : MethodName := ⟨RX6, "behind", "(II)I"⟩
def dkwX6_behind_0 : List UInt8 := [17, 1, 0, 42, 27, 182, 1, 72, 42, 28, 182, 1, 72, 104, 100, 172]
abbrev dktX6_behind_0 : List UInt8 := dkwX6_behind_0 ++ []
theorem dksX6_behind_0 : cX6_behind.data.toList.drop 0 = dktX6_behind_0 := by decide +kernel
theorem dX6_behind_0 : decode cX6_behind 0 = .ok (.sipush 256, 3) := dk_17 1 0 (dk_at dksX6_behind_0 0 rfl rfl)
theorem dX6_behind_3 : decode cX6_behind 3 = .ok (.aload_n 0, 1) := dk_42 (dk_at dksX6_behind_0 3 rfl rfl)
theorem dX6_behind_4 : decode cX6_behind 4 = .ok (.iload_n 1, 1) := dk_27 (dk_at dksX6_behind_0 4 rfl rfl)
theorem dX6_behind_5 : decode cX6_behind 5 = .ok (.invokevirtual 328, 3) := dk_182 1 72 (dk_at dksX6_behind_0 5 rfl rfl)
theorem dX6_behind_8 : decode cX6_behind 8 = .ok (.aload_n 0, 1) := dk_42 (dk_at dksX6_behind_0 8 rfl rfl)
theorem dX6_behind_9 : decode cX6_behind 9 = .ok (.iload_n 2, 1) := dk_28 (dk_at dksX6_behind_0 9 rfl rfl)
theorem dX6_behind_10 : decode cX6_behind 10 = .ok (.invokevirtual 328, 3) := dk_182 1 72 (dk_at dksX6_behind_0 10 rfl rfl)
theorem dX6_behind_13 : decode cX6_behind 13 = .ok (.imul, 1) := dk_104 (dk_at dksX6_behind_0 13 rfl rfl)
theorem dX6_behind_14 : decode cX6_behind 14 = .ok (.isub, 1) := dk_100 (dk_at dksX6_behind_0 14 rfl rfl)
theorem dX6_behind_15 : decode cX6_behind 15 = .ok (.ireturn, 1) := dk_172 (dk_at dksX6_behind_0 15 rfl rfl)
abbrev cX6_tellsBy : ByteArray := prog_16_method_10_code
def yX6_tellsBy : MethodName := ⟨RX6, "tellsBy", "(JJ)Z"⟩
def dkwX6_tellsBy_2 : List UInt8 := [3, 182, 0, 82, 172]
abbrev dktX6_tellsBy_2 : List UInt8 := dkwX6_tellsBy_2 ++ []
def dkwX6_tellsBy_1 : List UInt8 := [22, 9, 55, 7, 167, 255, 234, 42, 31, 22, 5, 109, 181, 0, 72, 42, 33, 22, 5, 109, 181, 0, 17, 42]
abbrev dktX6_tellsBy_1 : List UInt8 := dkwX6_tellsBy_1 ++ dktX6_tellsBy_2
def dkwX6_tellsBy_0 : List UInt8 := [31, 55, 5, 33, 55, 7, 22, 7, 9, 148, 153, 0, 21, 22, 5, 22, 7, 113, 55, 9, 22, 7, 55, 5]
abbrev dktX6_tellsBy_0 : List UInt8 := dkwX6_tellsBy_0 ++ dktX6_tellsBy_1
theorem dksX6_tellsBy_0 : cX6_tellsBy.data.toList.drop 0 = dktX6_tellsBy_0 := by decide +kernel
theorem dksX6_tellsBy_1 : cX6_tellsBy.data.toList.drop 24 = dktX6_tellsBy_1 := dk_seg dksX6_tellsBy_0 24 rfl rfl
theorem dksX6_tellsBy_2 : cX6_tellsBy.data.toList.drop 48 = dktX6_tellsBy_2 := dk_seg dksX6_tellsBy_1 24 rfl rfl
theorem dX6_tellsBy_0 : decode cX6_tellsBy 0 = .ok (.lload_n 1, 1) := dk_31 (dk_at dksX6_tellsBy_0 0 rfl rfl)
theorem dX6_tellsBy_1 : decode cX6_tellsBy 1 = .ok (.lstore 5, 2) := dk_55 5 (dk_at dksX6_tellsBy_0 1 rfl rfl)
theorem dX6_tellsBy_3 : decode cX6_tellsBy 3 = .ok (.lload_n 3, 1) := dk_33 (dk_at dksX6_tellsBy_0 3 rfl rfl)
theorem dX6_tellsBy_4 : decode cX6_tellsBy 4 = .ok (.lstore 7, 2) := dk_55 7 (dk_at dksX6_tellsBy_0 4 rfl rfl)
theorem dX6_tellsBy_6 : decode cX6_tellsBy 6 = .ok (.lload 7, 2) := dk_22 7 (dk_at dksX6_tellsBy_0 6 rfl rfl)
theorem dX6_tellsBy_8 : decode cX6_tellsBy 8 = .ok (.lconst 0, 1) := dk_9 (dk_at dksX6_tellsBy_0 8 rfl rfl)
theorem dX6_tellsBy_9 : decode cX6_tellsBy 9 = .ok (.lcmp, 1) := dk_148 (dk_at dksX6_tellsBy_0 9 rfl rfl)
theorem dX6_tellsBy_10 : decode cX6_tellsBy 10 = .ok (.ifCond .eq 21, 3) := dk_153 0 21 (dk_at dksX6_tellsBy_0 10 rfl rfl)
theorem dX6_tellsBy_13 : decode cX6_tellsBy 13 = .ok (.lload 5, 2) := dk_22 5 (dk_at dksX6_tellsBy_0 13 rfl rfl)
theorem dX6_tellsBy_15 : decode cX6_tellsBy 15 = .ok (.lload 7, 2) := dk_22 7 (dk_at dksX6_tellsBy_0 15 rfl rfl)
theorem dX6_tellsBy_17 : decode cX6_tellsBy 17 = .ok (.lrem, 1) := dk_113 (dk_at dksX6_tellsBy_0 17 rfl rfl)
theorem dX6_tellsBy_18 : decode cX6_tellsBy 18 = .ok (.lstore 9, 2) := dk_55 9 (dk_at dksX6_tellsBy_0 18 rfl rfl)
theorem dX6_tellsBy_20 : decode cX6_tellsBy 20 = .ok (.lload 7, 2) := dk_22 7 (dk_at dksX6_tellsBy_0 20 rfl rfl)
theorem dX6_tellsBy_22 : decode cX6_tellsBy 22 = .ok (.lstore 5, 2) := dk_55 5 (dk_at dksX6_tellsBy_0 22 rfl rfl)
theorem dX6_tellsBy_24 : decode cX6_tellsBy 24 = .ok (.lload 9, 2) := dk_22 9 (dk_at dksX6_tellsBy_1 0 rfl rfl)
theorem dX6_tellsBy_26 : decode cX6_tellsBy 26 = .ok (.lstore 7, 2) := dk_55 7 (dk_at dksX6_tellsBy_1 2 rfl rfl)
theorem dX6_tellsBy_28 : decode cX6_tellsBy 28 = .ok (.goto (-22), 3) := dk_167 255 234 (dk_at dksX6_tellsBy_1 4 rfl rfl)
theorem dX6_tellsBy_31 : decode cX6_tellsBy 31 = .ok (.aload_n 0, 1) := dk_42 (dk_at dksX6_tellsBy_1 7 rfl rfl)
theorem dX6_tellsBy_32 : decode cX6_tellsBy 32 = .ok (.lload_n 1, 1) := dk_31 (dk_at dksX6_tellsBy_1 8 rfl rfl)
theorem dX6_tellsBy_33 : decode cX6_tellsBy 33 = .ok (.lload 5, 2) := dk_22 5 (dk_at dksX6_tellsBy_1 9 rfl rfl)
theorem dX6_tellsBy_35 : decode cX6_tellsBy 35 = .ok (.ldiv, 1) := dk_109 (dk_at dksX6_tellsBy_1 11 rfl rfl)
theorem dX6_tellsBy_36 : decode cX6_tellsBy 36 = .ok (.putfield 72, 3) := dk_181 0 72 (dk_at dksX6_tellsBy_1 12 rfl rfl)
theorem dX6_tellsBy_39 : decode cX6_tellsBy 39 = .ok (.aload_n 0, 1) := dk_42 (dk_at dksX6_tellsBy_1 15 rfl rfl)
theorem dX6_tellsBy_40 : decode cX6_tellsBy 40 = .ok (.lload_n 3, 1) := dk_33 (dk_at dksX6_tellsBy_1 16 rfl rfl)
theorem dX6_tellsBy_41 : decode cX6_tellsBy 41 = .ok (.lload 5, 2) := dk_22 5 (dk_at dksX6_tellsBy_1 17 rfl rfl)
theorem dX6_tellsBy_43 : decode cX6_tellsBy 43 = .ok (.ldiv, 1) := dk_109 (dk_at dksX6_tellsBy_1 19 rfl rfl)
theorem dX6_tellsBy_44 : decode cX6_tellsBy 44 = .ok (.putfield 17, 3) := dk_181 0 17 (dk_at dksX6_tellsBy_1 20 rfl rfl)
theorem dX6_tellsBy_47 : decode cX6_tellsBy 47 = .ok (.aload_n 0, 1) := dk_42 (dk_at dksX6_tellsBy_1 23 rfl rfl)
theorem dX6_tellsBy_48 : decode cX6_tellsBy 48 = .ok (.iconst 0, 1) := dk_3 (dk_at dksX6_tellsBy_2 0 rfl rfl)
theorem dX6_tellsBy_49 : decode cX6_tellsBy 49 = .ok (.invokevirtual 82, 3) := dk_182 0 82 (dk_at dksX6_tellsBy_2 1 rfl rfl)
theorem dX6_tellsBy_52 : decode cX6_tellsBy 52 = .ok (.ireturn, 1) := dk_172 (dk_at dksX6_tellsBy_2 4 rfl rfl)
abbrev cX6_goes : ByteArray := prog_16_method_97_code
def yX6_goes : MethodName := ⟨RX6, "goes", "(II)Z"⟩
def dkwX6_goes_2 : List UInt8 := [27, 28, 182, 1, 84, 133, 182, 1, 87, 172]
abbrev dktX6_goes_2 : List UInt8 := dkwX6_goes_2 ++ []
def dkwX6_goes_1 : List UInt8 := [42, 16, 6, 182, 0, 82, 167, 0, 27, 42, 20, 1, 91, 16, 16, 42, 27, 182, 1, 72, 96, 133, 105, 42]
abbrev dktX6_goes_1 : List UInt8 := dkwX6_goes_1 ++ dktX6_goes_2
def dkwX6_goes_0 : List UInt8 := [42, 27, 28, 182, 1, 75, 154, 0, 9, 42, 4, 182, 0, 82, 172, 42, 27, 28, 182, 1, 78, 153, 0, 12]
abbrev dktX6_goes_0 : List UInt8 := dkwX6_goes_0 ++ dktX6_goes_1
theorem dksX6_goes_0 : cX6_goes.data.toList.drop 0 = dktX6_goes_0 := by decide +kernel
theorem dksX6_goes_1 : cX6_goes.data.toList.drop 24 = dktX6_goes_1 := dk_seg dksX6_goes_0 24 rfl rfl
theorem dksX6_goes_2 : cX6_goes.data.toList.drop 48 = dktX6_goes_2 := dk_seg dksX6_goes_1 24 rfl rfl
theorem dX6_goes_0 : decode cX6_goes 0 = .ok (.aload_n 0, 1) := dk_42 (dk_at dksX6_goes_0 0 rfl rfl)
theorem dX6_goes_1 : decode cX6_goes 1 = .ok (.iload_n 1, 1) := dk_27 (dk_at dksX6_goes_0 1 rfl rfl)
theorem dX6_goes_2 : decode cX6_goes 2 = .ok (.iload_n 2, 1) := dk_28 (dk_at dksX6_goes_0 2 rfl rfl)
theorem dX6_goes_3 : decode cX6_goes 3 = .ok (.invokevirtual 331, 3) := dk_182 1 75 (dk_at dksX6_goes_0 3 rfl rfl)
theorem dX6_goes_6 : decode cX6_goes 6 = .ok (.ifCond .ne 9, 3) := dk_154 0 9 (dk_at dksX6_goes_0 6 rfl rfl)
theorem dX6_goes_9 : decode cX6_goes 9 = .ok (.aload_n 0, 1) := dk_42 (dk_at dksX6_goes_0 9 rfl rfl)
theorem dX6_goes_10 : decode cX6_goes 10 = .ok (.iconst 1, 1) := dk_4 (dk_at dksX6_goes_0 10 rfl rfl)
theorem dX6_goes_11 : decode cX6_goes 11 = .ok (.invokevirtual 82, 3) := dk_182 0 82 (dk_at dksX6_goes_0 11 rfl rfl)
theorem dX6_goes_14 : decode cX6_goes 14 = .ok (.ireturn, 1) := dk_172 (dk_at dksX6_goes_0 14 rfl rfl)
theorem dX6_goes_15 : decode cX6_goes 15 = .ok (.aload_n 0, 1) := dk_42 (dk_at dksX6_goes_0 15 rfl rfl)
theorem dX6_goes_16 : decode cX6_goes 16 = .ok (.iload_n 1, 1) := dk_27 (dk_at dksX6_goes_0 16 rfl rfl)
theorem dX6_goes_17 : decode cX6_goes 17 = .ok (.iload_n 2, 1) := dk_28 (dk_at dksX6_goes_0 17 rfl rfl)
theorem dX6_goes_18 : decode cX6_goes 18 = .ok (.invokevirtual 334, 3) := dk_182 1 78 (dk_at dksX6_goes_0 18 rfl rfl)
theorem dX6_goes_21 : decode cX6_goes 21 = .ok (.ifCond .eq 12, 3) := dk_153 0 12 (dk_at dksX6_goes_0 21 rfl rfl)
theorem dX6_goes_24 : decode cX6_goes 24 = .ok (.aload_n 0, 1) := dk_42 (dk_at dksX6_goes_1 0 rfl rfl)
theorem dX6_goes_25 : decode cX6_goes 25 = .ok (.bipush 6, 2) := dk_16 6 (dk_at dksX6_goes_1 1 rfl rfl)
theorem dX6_goes_27 : decode cX6_goes 27 = .ok (.invokevirtual 82, 3) := dk_182 0 82 (dk_at dksX6_goes_1 3 rfl rfl)
theorem dX6_goes_30 : decode cX6_goes 30 = .ok (.goto 27, 3) := dk_167 0 27 (dk_at dksX6_goes_1 6 rfl rfl)
theorem dX6_goes_33 : decode cX6_goes 33 = .ok (.aload_n 0, 1) := dk_42 (dk_at dksX6_goes_1 9 rfl rfl)
theorem dX6_goes_34 : decode cX6_goes 34 = .ok (.ldc2_w 347, 3) := dk_20 1 91 (dk_at dksX6_goes_1 10 rfl rfl)
theorem dX6_goes_37 : decode cX6_goes 37 = .ok (.bipush 16, 2) := dk_16 16 (dk_at dksX6_goes_1 13 rfl rfl)
theorem dX6_goes_39 : decode cX6_goes 39 = .ok (.aload_n 0, 1) := dk_42 (dk_at dksX6_goes_1 15 rfl rfl)
theorem dX6_goes_40 : decode cX6_goes 40 = .ok (.iload_n 1, 1) := dk_27 (dk_at dksX6_goes_1 16 rfl rfl)
theorem dX6_goes_41 : decode cX6_goes 41 = .ok (.invokevirtual 328, 3) := dk_182 1 72 (dk_at dksX6_goes_1 17 rfl rfl)
theorem dX6_goes_44 : decode cX6_goes 44 = .ok (.iadd, 1) := dk_96 (dk_at dksX6_goes_1 20 rfl rfl)
theorem dX6_goes_45 : decode cX6_goes 45 = .ok (.i2l, 1) := dk_133 (dk_at dksX6_goes_1 21 rfl rfl)
theorem dX6_goes_46 : decode cX6_goes 46 = .ok (.lmul, 1) := dk_105 (dk_at dksX6_goes_1 22 rfl rfl)
theorem dX6_goes_47 : decode cX6_goes 47 = .ok (.aload_n 0, 1) := dk_42 (dk_at dksX6_goes_1 23 rfl rfl)
theorem dX6_goes_48 : decode cX6_goes 48 = .ok (.iload_n 1, 1) := dk_27 (dk_at dksX6_goes_2 0 rfl rfl)
theorem dX6_goes_49 : decode cX6_goes 49 = .ok (.iload_n 2, 1) := dk_28 (dk_at dksX6_goes_2 1 rfl rfl)
theorem dX6_goes_50 : decode cX6_goes 50 = .ok (.invokevirtual 340, 3) := dk_182 1 84 (dk_at dksX6_goes_2 2 rfl rfl)
theorem dX6_goes_53 : decode cX6_goes 53 = .ok (.i2l, 1) := dk_133 (dk_at dksX6_goes_2 5 rfl rfl)
theorem dX6_goes_54 : decode cX6_goes 54 = .ok (.invokevirtual 343, 3) := dk_182 1 87 (dk_at dksX6_goes_2 6 rfl rfl)
theorem dX6_goes_57 : decode cX6_goes 57 = .ok (.ireturn, 1) := dk_172 (dk_at dksX6_goes_2 9 rfl rfl)
abbrev cX6_trio : ByteArray := prog_16_method_98_code
def yX6_trio : MethodName := ⟨RX6, "trio", "(IIII)Z"⟩
def dkwX6_trio_15 : List UInt8 := [29, 182, 1, 84, 133, 105, 42, 29, 27, 182, 1, 84, 133, 105, 182, 1, 87, 172]
abbrev dktX6_trio_15 : List UInt8 := dkwX6_trio_15 ++ []
def dkwX6_trio_14 : List UInt8 := [27, 182, 1, 84, 133, 105, 97, 55, 10, 42, 22, 10, 22, 8, 42, 27, 28, 182, 1, 84, 133, 105, 42, 28]
abbrev dktX6_trio_14 : List UInt8 := dkwX6_trio_14 ++ dktX6_trio_15
def dkwX6_trio_13 : List UInt8 := [27, 28, 182, 1, 84, 42, 27, 28, 182, 1, 81, 100, 133, 105, 42, 28, 29, 182, 1, 84, 133, 105, 42, 29]
abbrev dktX6_trio_13 : List UInt8 := dkwX6_trio_13 ++ dktX6_trio_14
def dkwX6_trio_12 : List UInt8 := [5, 159, 0, 56, 22, 10, 21, 7, 133, 21, 4, 154, 0, 12, 42, 27, 28, 182, 1, 81, 167, 0, 16, 42]
abbrev dktX6_trio_12 : List UInt8 := dkwX6_trio_12 ++ dktX6_trio_13
def dkwX6_trio_11 : List UInt8 := [100, 133, 105, 42, 28, 29, 182, 1, 84, 133, 105, 42, 27, 28, 182, 1, 84, 133, 105, 97, 55, 10, 21, 4]
abbrev dktX6_trio_11 : List UInt8 := dkwX6_trio_11 ++ dktX6_trio_12
def dkwX6_trio_10 : List UInt8 := [160, 0, 12, 42, 29, 27, 182, 1, 81, 167, 0, 16, 42, 29, 27, 182, 1, 84, 42, 29, 27, 182, 1, 81]
abbrev dktX6_trio_10 : List UInt8 := dkwX6_trio_10 ++ dktX6_trio_11
def dkwX6_trio_9 : List UInt8 := [182, 1, 84, 133, 105, 97, 55, 10, 21, 4, 4, 159, 0, 57, 22, 10, 21, 6, 133, 21, 4, 5]
abbrev dktX6_trio_9 : List UInt8 := dkwX6_trio_9 ++ dktX6_trio_10
def dkwX6_trio_8 : List UInt8 := [182, 1, 84, 42, 28, 29, 182, 1, 81, 100, 133, 105, 42, 29, 27, 182, 1, 84, 133, 105, 42, 27, 28]
abbrev dktX6_trio_8 : List UInt8 := dkwX6_trio_8 ++ dktX6_trio_9
def dkwX6_trio_7 : List UInt8 := [22, 10, 21, 5, 133, 21, 4, 4, 160, 0, 12, 42, 28, 29, 182, 1, 81, 167, 0, 16, 42, 28, 29]
abbrev dktX6_trio_7 : List UInt8 := dkwX6_trio_7 ++ dktX6_trio_8
def dkwX6_trio_6 : List UInt8 := [28, 182, 1, 72, 104, 42, 29, 182, 1, 72, 104, 133, 101, 55, 8, 9, 55, 10, 21, 4, 153, 0, 57]
abbrev dktX6_trio_6 : List UInt8 := dkwX6_trio_6 ++ dktX6_trio_7
def dkwX6_trio_5 : List UInt8 := [182, 1, 72, 104, 16, 16, 42, 29, 182, 1, 72, 100, 104, 54, 7, 20, 1, 93, 42, 27, 182, 1, 72, 42]
abbrev dktX6_trio_5 : List UInt8 := dkwX6_trio_5 ++ dktX6_trio_6
def dkwX6_trio_4 : List UInt8 := [182, 1, 72, 16, 16, 42, 28, 182, 1, 72, 100, 104, 16, 16, 104, 54, 6, 42, 27, 182, 1, 72, 42, 28]
abbrev dktX6_trio_4 : List UInt8 := dkwX6_trio_4 ++ dktX6_trio_5
def dkwX6_trio_3 : List UInt8 := [42, 16, 6, 182, 0, 82, 172, 16, 16, 42, 27, 182, 1, 72, 100, 17, 1, 0, 104, 54, 5, 42, 27]
abbrev dktX6_trio_3 : List UInt8 := dkwX6_trio_3 ++ dktX6_trio_4
def dkwX6_trio_2 : List UInt8 := [182, 1, 78, 154, 0, 21, 42, 27, 29, 182, 1, 78, 154, 0, 12, 42, 28, 29, 182, 1, 78, 153, 0, 10]
abbrev dktX6_trio_2 : List UInt8 := dkwX6_trio_2 ++ dktX6_trio_3
def dkwX6_trio_1 : List UInt8 := [153, 0, 14, 21, 4, 155, 0, 9, 21, 4, 5, 164, 0, 9, 42, 4, 182, 0, 82, 172, 42, 27, 28]
abbrev dktX6_trio_1 : List UInt8 := dkwX6_trio_1 ++ dktX6_trio_2
def dkwX6_trio_0 : List UInt8 := [42, 27, 28, 182, 1, 75, 153, 0, 32, 42, 27, 29, 182, 1, 75, 153, 0, 23, 42, 28, 29, 182, 1, 75]
abbrev dktX6_trio_0 : List UInt8 := dkwX6_trio_0 ++ dktX6_trio_1
theorem dksX6_trio_0 : cX6_trio.data.toList.drop 0 = dktX6_trio_0 := by decide +kernel
theorem dksX6_trio_1 : cX6_trio.data.toList.drop 24 = dktX6_trio_1 := dk_seg dksX6_trio_0 24 rfl rfl
theorem dksX6_trio_2 : cX6_trio.data.toList.drop 47 = dktX6_trio_2 := dk_seg dksX6_trio_1 23 rfl rfl
theorem dksX6_trio_3 : cX6_trio.data.toList.drop 71 = dktX6_trio_3 := dk_seg dksX6_trio_2 24 rfl rfl
theorem dksX6_trio_4 : cX6_trio.data.toList.drop 94 = dktX6_trio_4 := dk_seg dksX6_trio_3 23 rfl rfl
theorem dksX6_trio_5 : cX6_trio.data.toList.drop 118 = dktX6_trio_5 := dk_seg dksX6_trio_4 24 rfl rfl
theorem dksX6_trio_6 : cX6_trio.data.toList.drop 142 = dktX6_trio_6 := dk_seg dksX6_trio_5 24 rfl rfl
theorem dksX6_trio_7 : cX6_trio.data.toList.drop 165 = dktX6_trio_7 := dk_seg dksX6_trio_6 23 rfl rfl
theorem dksX6_trio_8 : cX6_trio.data.toList.drop 188 = dktX6_trio_8 := dk_seg dksX6_trio_7 23 rfl rfl
theorem dksX6_trio_9 : cX6_trio.data.toList.drop 211 = dktX6_trio_9 := dk_seg dksX6_trio_8 23 rfl rfl
theorem dksX6_trio_10 : cX6_trio.data.toList.drop 233 = dktX6_trio_10 := dk_seg dksX6_trio_9 22 rfl rfl
theorem dksX6_trio_11 : cX6_trio.data.toList.drop 257 = dktX6_trio_11 := dk_seg dksX6_trio_10 24 rfl rfl
theorem dksX6_trio_12 : cX6_trio.data.toList.drop 281 = dktX6_trio_12 := dk_seg dksX6_trio_11 24 rfl rfl
theorem dksX6_trio_13 : cX6_trio.data.toList.drop 305 = dktX6_trio_13 := dk_seg dksX6_trio_12 24 rfl rfl
theorem dksX6_trio_14 : cX6_trio.data.toList.drop 329 = dktX6_trio_14 := dk_seg dksX6_trio_13 24 rfl rfl
theorem dksX6_trio_15 : cX6_trio.data.toList.drop 353 = dktX6_trio_15 := dk_seg dksX6_trio_14 24 rfl rfl
theorem dX6_trio_0 : decode cX6_trio 0 = .ok (.aload_n 0, 1) := dk_42 (dk_at dksX6_trio_0 0 rfl rfl)
theorem dX6_trio_1 : decode cX6_trio 1 = .ok (.iload_n 1, 1) := dk_27 (dk_at dksX6_trio_0 1 rfl rfl)
theorem dX6_trio_2 : decode cX6_trio 2 = .ok (.iload_n 2, 1) := dk_28 (dk_at dksX6_trio_0 2 rfl rfl)
theorem dX6_trio_3 : decode cX6_trio 3 = .ok (.invokevirtual 331, 3) := dk_182 1 75 (dk_at dksX6_trio_0 3 rfl rfl)
theorem dX6_trio_6 : decode cX6_trio 6 = .ok (.ifCond .eq 32, 3) := dk_153 0 32 (dk_at dksX6_trio_0 6 rfl rfl)
theorem dX6_trio_9 : decode cX6_trio 9 = .ok (.aload_n 0, 1) := dk_42 (dk_at dksX6_trio_0 9 rfl rfl)
theorem dX6_trio_10 : decode cX6_trio 10 = .ok (.iload_n 1, 1) := dk_27 (dk_at dksX6_trio_0 10 rfl rfl)
theorem dX6_trio_11 : decode cX6_trio 11 = .ok (.iload_n 3, 1) := dk_29 (dk_at dksX6_trio_0 11 rfl rfl)
theorem dX6_trio_12 : decode cX6_trio 12 = .ok (.invokevirtual 331, 3) := dk_182 1 75 (dk_at dksX6_trio_0 12 rfl rfl)
theorem dX6_trio_15 : decode cX6_trio 15 = .ok (.ifCond .eq 23, 3) := dk_153 0 23 (dk_at dksX6_trio_0 15 rfl rfl)
theorem dX6_trio_18 : decode cX6_trio 18 = .ok (.aload_n 0, 1) := dk_42 (dk_at dksX6_trio_0 18 rfl rfl)
theorem dX6_trio_19 : decode cX6_trio 19 = .ok (.iload_n 2, 1) := dk_28 (dk_at dksX6_trio_0 19 rfl rfl)
theorem dX6_trio_20 : decode cX6_trio 20 = .ok (.iload_n 3, 1) := dk_29 (dk_at dksX6_trio_0 20 rfl rfl)
theorem dX6_trio_21 : decode cX6_trio 21 = .ok (.invokevirtual 331, 3) := dk_182 1 75 (dk_at dksX6_trio_0 21 rfl rfl)
theorem dX6_trio_24 : decode cX6_trio 24 = .ok (.ifCond .eq 14, 3) := dk_153 0 14 (dk_at dksX6_trio_1 0 rfl rfl)
theorem dX6_trio_27 : decode cX6_trio 27 = .ok (.iload 4, 2) := dk_21 4 (dk_at dksX6_trio_1 3 rfl rfl)
theorem dX6_trio_29 : decode cX6_trio 29 = .ok (.ifCond .lt 9, 3) := dk_155 0 9 (dk_at dksX6_trio_1 5 rfl rfl)
theorem dX6_trio_32 : decode cX6_trio 32 = .ok (.iload 4, 2) := dk_21 4 (dk_at dksX6_trio_1 8 rfl rfl)
theorem dX6_trio_34 : decode cX6_trio 34 = .ok (.iconst 2, 1) := dk_5 (dk_at dksX6_trio_1 10 rfl rfl)
theorem dX6_trio_35 : decode cX6_trio 35 = .ok (.if_icmp .le 9, 3) := dk_164 0 9 (dk_at dksX6_trio_1 11 rfl rfl)
theorem dX6_trio_38 : decode cX6_trio 38 = .ok (.aload_n 0, 1) := dk_42 (dk_at dksX6_trio_1 14 rfl rfl)
theorem dX6_trio_39 : decode cX6_trio 39 = .ok (.iconst 1, 1) := dk_4 (dk_at dksX6_trio_1 15 rfl rfl)
theorem dX6_trio_40 : decode cX6_trio 40 = .ok (.invokevirtual 82, 3) := dk_182 0 82 (dk_at dksX6_trio_1 16 rfl rfl)
theorem dX6_trio_43 : decode cX6_trio 43 = .ok (.ireturn, 1) := dk_172 (dk_at dksX6_trio_1 19 rfl rfl)
theorem dX6_trio_44 : decode cX6_trio 44 = .ok (.aload_n 0, 1) := dk_42 (dk_at dksX6_trio_1 20 rfl rfl)
theorem dX6_trio_45 : decode cX6_trio 45 = .ok (.iload_n 1, 1) := dk_27 (dk_at dksX6_trio_1 21 rfl rfl)
theorem dX6_trio_46 : decode cX6_trio 46 = .ok (.iload_n 2, 1) := dk_28 (dk_at dksX6_trio_1 22 rfl rfl)
theorem dX6_trio_47 : decode cX6_trio 47 = .ok (.invokevirtual 334, 3) := dk_182 1 78 (dk_at dksX6_trio_2 0 rfl rfl)
theorem dX6_trio_50 : decode cX6_trio 50 = .ok (.ifCond .ne 21, 3) := dk_154 0 21 (dk_at dksX6_trio_2 3 rfl rfl)
theorem dX6_trio_53 : decode cX6_trio 53 = .ok (.aload_n 0, 1) := dk_42 (dk_at dksX6_trio_2 6 rfl rfl)
theorem dX6_trio_54 : decode cX6_trio 54 = .ok (.iload_n 1, 1) := dk_27 (dk_at dksX6_trio_2 7 rfl rfl)
theorem dX6_trio_55 : decode cX6_trio 55 = .ok (.iload_n 3, 1) := dk_29 (dk_at dksX6_trio_2 8 rfl rfl)
theorem dX6_trio_56 : decode cX6_trio 56 = .ok (.invokevirtual 334, 3) := dk_182 1 78 (dk_at dksX6_trio_2 9 rfl rfl)
theorem dX6_trio_59 : decode cX6_trio 59 = .ok (.ifCond .ne 12, 3) := dk_154 0 12 (dk_at dksX6_trio_2 12 rfl rfl)
theorem dX6_trio_62 : decode cX6_trio 62 = .ok (.aload_n 0, 1) := dk_42 (dk_at dksX6_trio_2 15 rfl rfl)
theorem dX6_trio_63 : decode cX6_trio 63 = .ok (.iload_n 2, 1) := dk_28 (dk_at dksX6_trio_2 16 rfl rfl)
theorem dX6_trio_64 : decode cX6_trio 64 = .ok (.iload_n 3, 1) := dk_29 (dk_at dksX6_trio_2 17 rfl rfl)
theorem dX6_trio_65 : decode cX6_trio 65 = .ok (.invokevirtual 334, 3) := dk_182 1 78 (dk_at dksX6_trio_2 18 rfl rfl)
theorem dX6_trio_68 : decode cX6_trio 68 = .ok (.ifCond .eq 10, 3) := dk_153 0 10 (dk_at dksX6_trio_2 21 rfl rfl)
theorem dX6_trio_71 : decode cX6_trio 71 = .ok (.aload_n 0, 1) := dk_42 (dk_at dksX6_trio_3 0 rfl rfl)
theorem dX6_trio_72 : decode cX6_trio 72 = .ok (.bipush 6, 2) := dk_16 6 (dk_at dksX6_trio_3 1 rfl rfl)
theorem dX6_trio_74 : decode cX6_trio 74 = .ok (.invokevirtual 82, 3) := dk_182 0 82 (dk_at dksX6_trio_3 3 rfl rfl)
theorem dX6_trio_77 : decode cX6_trio 77 = .ok (.ireturn, 1) := dk_172 (dk_at dksX6_trio_3 6 rfl rfl)
theorem dX6_trio_78 : decode cX6_trio 78 = .ok (.bipush 16, 2) := dk_16 16 (dk_at dksX6_trio_3 7 rfl rfl)
theorem dX6_trio_80 : decode cX6_trio 80 = .ok (.aload_n 0, 1) := dk_42 (dk_at dksX6_trio_3 9 rfl rfl)
theorem dX6_trio_81 : decode cX6_trio 81 = .ok (.iload_n 1, 1) := dk_27 (dk_at dksX6_trio_3 10 rfl rfl)
theorem dX6_trio_82 : decode cX6_trio 82 = .ok (.invokevirtual 328, 3) := dk_182 1 72 (dk_at dksX6_trio_3 11 rfl rfl)
theorem dX6_trio_85 : decode cX6_trio 85 = .ok (.isub, 1) := dk_100 (dk_at dksX6_trio_3 14 rfl rfl)
theorem dX6_trio_86 : decode cX6_trio 86 = .ok (.sipush 256, 3) := dk_17 1 0 (dk_at dksX6_trio_3 15 rfl rfl)
theorem dX6_trio_89 : decode cX6_trio 89 = .ok (.imul, 1) := dk_104 (dk_at dksX6_trio_3 18 rfl rfl)
theorem dX6_trio_90 : decode cX6_trio 90 = .ok (.istore 5, 2) := dk_54 5 (dk_at dksX6_trio_3 19 rfl rfl)
theorem dX6_trio_92 : decode cX6_trio 92 = .ok (.aload_n 0, 1) := dk_42 (dk_at dksX6_trio_3 21 rfl rfl)
theorem dX6_trio_93 : decode cX6_trio 93 = .ok (.iload_n 1, 1) := dk_27 (dk_at dksX6_trio_3 22 rfl rfl)
theorem dX6_trio_94 : decode cX6_trio 94 = .ok (.invokevirtual 328, 3) := dk_182 1 72 (dk_at dksX6_trio_4 0 rfl rfl)
theorem dX6_trio_97 : decode cX6_trio 97 = .ok (.bipush 16, 2) := dk_16 16 (dk_at dksX6_trio_4 3 rfl rfl)
theorem dX6_trio_99 : decode cX6_trio 99 = .ok (.aload_n 0, 1) := dk_42 (dk_at dksX6_trio_4 5 rfl rfl)
theorem dX6_trio_100 : decode cX6_trio 100 = .ok (.iload_n 2, 1) := dk_28 (dk_at dksX6_trio_4 6 rfl rfl)
theorem dX6_trio_101 : decode cX6_trio 101 = .ok (.invokevirtual 328, 3) := dk_182 1 72 (dk_at dksX6_trio_4 7 rfl rfl)
theorem dX6_trio_104 : decode cX6_trio 104 = .ok (.isub, 1) := dk_100 (dk_at dksX6_trio_4 10 rfl rfl)
theorem dX6_trio_105 : decode cX6_trio 105 = .ok (.imul, 1) := dk_104 (dk_at dksX6_trio_4 11 rfl rfl)
theorem dX6_trio_106 : decode cX6_trio 106 = .ok (.bipush 16, 2) := dk_16 16 (dk_at dksX6_trio_4 12 rfl rfl)
theorem dX6_trio_108 : decode cX6_trio 108 = .ok (.imul, 1) := dk_104 (dk_at dksX6_trio_4 14 rfl rfl)
theorem dX6_trio_109 : decode cX6_trio 109 = .ok (.istore 6, 2) := dk_54 6 (dk_at dksX6_trio_4 15 rfl rfl)
theorem dX6_trio_111 : decode cX6_trio 111 = .ok (.aload_n 0, 1) := dk_42 (dk_at dksX6_trio_4 17 rfl rfl)
theorem dX6_trio_112 : decode cX6_trio 112 = .ok (.iload_n 1, 1) := dk_27 (dk_at dksX6_trio_4 18 rfl rfl)
theorem dX6_trio_113 : decode cX6_trio 113 = .ok (.invokevirtual 328, 3) := dk_182 1 72 (dk_at dksX6_trio_4 19 rfl rfl)
theorem dX6_trio_116 : decode cX6_trio 116 = .ok (.aload_n 0, 1) := dk_42 (dk_at dksX6_trio_4 22 rfl rfl)
theorem dX6_trio_117 : decode cX6_trio 117 = .ok (.iload_n 2, 1) := dk_28 (dk_at dksX6_trio_4 23 rfl rfl)
theorem dX6_trio_118 : decode cX6_trio 118 = .ok (.invokevirtual 328, 3) := dk_182 1 72 (dk_at dksX6_trio_5 0 rfl rfl)
theorem dX6_trio_121 : decode cX6_trio 121 = .ok (.imul, 1) := dk_104 (dk_at dksX6_trio_5 3 rfl rfl)
theorem dX6_trio_122 : decode cX6_trio 122 = .ok (.bipush 16, 2) := dk_16 16 (dk_at dksX6_trio_5 4 rfl rfl)
theorem dX6_trio_124 : decode cX6_trio 124 = .ok (.aload_n 0, 1) := dk_42 (dk_at dksX6_trio_5 6 rfl rfl)
theorem dX6_trio_125 : decode cX6_trio 125 = .ok (.iload_n 3, 1) := dk_29 (dk_at dksX6_trio_5 7 rfl rfl)
theorem dX6_trio_126 : decode cX6_trio 126 = .ok (.invokevirtual 328, 3) := dk_182 1 72 (dk_at dksX6_trio_5 8 rfl rfl)
theorem dX6_trio_129 : decode cX6_trio 129 = .ok (.isub, 1) := dk_100 (dk_at dksX6_trio_5 11 rfl rfl)
theorem dX6_trio_130 : decode cX6_trio 130 = .ok (.imul, 1) := dk_104 (dk_at dksX6_trio_5 12 rfl rfl)
theorem dX6_trio_131 : decode cX6_trio 131 = .ok (.istore 7, 2) := dk_54 7 (dk_at dksX6_trio_5 13 rfl rfl)
theorem dX6_trio_133 : decode cX6_trio 133 = .ok (.ldc2_w 349, 3) := dk_20 1 93 (dk_at dksX6_trio_5 15 rfl rfl)
theorem dX6_trio_136 : decode cX6_trio 136 = .ok (.aload_n 0, 1) := dk_42 (dk_at dksX6_trio_5 18 rfl rfl)
theorem dX6_trio_137 : decode cX6_trio 137 = .ok (.iload_n 1, 1) := dk_27 (dk_at dksX6_trio_5 19 rfl rfl)
theorem dX6_trio_138 : decode cX6_trio 138 = .ok (.invokevirtual 328, 3) := dk_182 1 72 (dk_at dksX6_trio_5 20 rfl rfl)
theorem dX6_trio_141 : decode cX6_trio 141 = .ok (.aload_n 0, 1) := dk_42 (dk_at dksX6_trio_5 23 rfl rfl)
theorem dX6_trio_142 : decode cX6_trio 142 = .ok (.iload_n 2, 1) := dk_28 (dk_at dksX6_trio_6 0 rfl rfl)
theorem dX6_trio_143 : decode cX6_trio 143 = .ok (.invokevirtual 328, 3) := dk_182 1 72 (dk_at dksX6_trio_6 1 rfl rfl)
theorem dX6_trio_146 : decode cX6_trio 146 = .ok (.imul, 1) := dk_104 (dk_at dksX6_trio_6 4 rfl rfl)
theorem dX6_trio_147 : decode cX6_trio 147 = .ok (.aload_n 0, 1) := dk_42 (dk_at dksX6_trio_6 5 rfl rfl)
theorem dX6_trio_148 : decode cX6_trio 148 = .ok (.iload_n 3, 1) := dk_29 (dk_at dksX6_trio_6 6 rfl rfl)
theorem dX6_trio_149 : decode cX6_trio 149 = .ok (.invokevirtual 328, 3) := dk_182 1 72 (dk_at dksX6_trio_6 7 rfl rfl)
theorem dX6_trio_152 : decode cX6_trio 152 = .ok (.imul, 1) := dk_104 (dk_at dksX6_trio_6 10 rfl rfl)
theorem dX6_trio_153 : decode cX6_trio 153 = .ok (.i2l, 1) := dk_133 (dk_at dksX6_trio_6 11 rfl rfl)
theorem dX6_trio_154 : decode cX6_trio 154 = .ok (.lsub, 1) := dk_101 (dk_at dksX6_trio_6 12 rfl rfl)
theorem dX6_trio_155 : decode cX6_trio 155 = .ok (.lstore 8, 2) := dk_55 8 (dk_at dksX6_trio_6 13 rfl rfl)
theorem dX6_trio_157 : decode cX6_trio 157 = .ok (.lconst 0, 1) := dk_9 (dk_at dksX6_trio_6 15 rfl rfl)
theorem dX6_trio_158 : decode cX6_trio 158 = .ok (.lstore 10, 2) := dk_55 10 (dk_at dksX6_trio_6 16 rfl rfl)
theorem dX6_trio_160 : decode cX6_trio 160 = .ok (.iload 4, 2) := dk_21 4 (dk_at dksX6_trio_6 18 rfl rfl)
theorem dX6_trio_162 : decode cX6_trio 162 = .ok (.ifCond .eq 57, 3) := dk_153 0 57 (dk_at dksX6_trio_6 20 rfl rfl)
theorem dX6_trio_165 : decode cX6_trio 165 = .ok (.lload 10, 2) := dk_22 10 (dk_at dksX6_trio_7 0 rfl rfl)
theorem dX6_trio_167 : decode cX6_trio 167 = .ok (.iload 5, 2) := dk_21 5 (dk_at dksX6_trio_7 2 rfl rfl)
theorem dX6_trio_169 : decode cX6_trio 169 = .ok (.i2l, 1) := dk_133 (dk_at dksX6_trio_7 4 rfl rfl)
theorem dX6_trio_170 : decode cX6_trio 170 = .ok (.iload 4, 2) := dk_21 4 (dk_at dksX6_trio_7 5 rfl rfl)
theorem dX6_trio_172 : decode cX6_trio 172 = .ok (.iconst 1, 1) := dk_4 (dk_at dksX6_trio_7 7 rfl rfl)
theorem dX6_trio_173 : decode cX6_trio 173 = .ok (.if_icmp .ne 12, 3) := dk_160 0 12 (dk_at dksX6_trio_7 8 rfl rfl)
theorem dX6_trio_176 : decode cX6_trio 176 = .ok (.aload_n 0, 1) := dk_42 (dk_at dksX6_trio_7 11 rfl rfl)
theorem dX6_trio_177 : decode cX6_trio 177 = .ok (.iload_n 2, 1) := dk_28 (dk_at dksX6_trio_7 12 rfl rfl)
theorem dX6_trio_178 : decode cX6_trio 178 = .ok (.iload_n 3, 1) := dk_29 (dk_at dksX6_trio_7 13 rfl rfl)
theorem dX6_trio_179 : decode cX6_trio 179 = .ok (.invokevirtual 337, 3) := dk_182 1 81 (dk_at dksX6_trio_7 14 rfl rfl)
theorem dX6_trio_182 : decode cX6_trio 182 = .ok (.goto 16, 3) := dk_167 0 16 (dk_at dksX6_trio_7 17 rfl rfl)
theorem dX6_trio_185 : decode cX6_trio 185 = .ok (.aload_n 0, 1) := dk_42 (dk_at dksX6_trio_7 20 rfl rfl)
theorem dX6_trio_186 : decode cX6_trio 186 = .ok (.iload_n 2, 1) := dk_28 (dk_at dksX6_trio_7 21 rfl rfl)
theorem dX6_trio_187 : decode cX6_trio 187 = .ok (.iload_n 3, 1) := dk_29 (dk_at dksX6_trio_7 22 rfl rfl)
theorem dX6_trio_188 : decode cX6_trio 188 = .ok (.invokevirtual 340, 3) := dk_182 1 84 (dk_at dksX6_trio_8 0 rfl rfl)
theorem dX6_trio_191 : decode cX6_trio 191 = .ok (.aload_n 0, 1) := dk_42 (dk_at dksX6_trio_8 3 rfl rfl)
theorem dX6_trio_192 : decode cX6_trio 192 = .ok (.iload_n 2, 1) := dk_28 (dk_at dksX6_trio_8 4 rfl rfl)
theorem dX6_trio_193 : decode cX6_trio 193 = .ok (.iload_n 3, 1) := dk_29 (dk_at dksX6_trio_8 5 rfl rfl)
theorem dX6_trio_194 : decode cX6_trio 194 = .ok (.invokevirtual 337, 3) := dk_182 1 81 (dk_at dksX6_trio_8 6 rfl rfl)
theorem dX6_trio_197 : decode cX6_trio 197 = .ok (.isub, 1) := dk_100 (dk_at dksX6_trio_8 9 rfl rfl)
theorem dX6_trio_198 : decode cX6_trio 198 = .ok (.i2l, 1) := dk_133 (dk_at dksX6_trio_8 10 rfl rfl)
theorem dX6_trio_199 : decode cX6_trio 199 = .ok (.lmul, 1) := dk_105 (dk_at dksX6_trio_8 11 rfl rfl)
theorem dX6_trio_200 : decode cX6_trio 200 = .ok (.aload_n 0, 1) := dk_42 (dk_at dksX6_trio_8 12 rfl rfl)
theorem dX6_trio_201 : decode cX6_trio 201 = .ok (.iload_n 3, 1) := dk_29 (dk_at dksX6_trio_8 13 rfl rfl)
theorem dX6_trio_202 : decode cX6_trio 202 = .ok (.iload_n 1, 1) := dk_27 (dk_at dksX6_trio_8 14 rfl rfl)
theorem dX6_trio_203 : decode cX6_trio 203 = .ok (.invokevirtual 340, 3) := dk_182 1 84 (dk_at dksX6_trio_8 15 rfl rfl)
theorem dX6_trio_206 : decode cX6_trio 206 = .ok (.i2l, 1) := dk_133 (dk_at dksX6_trio_8 18 rfl rfl)
theorem dX6_trio_207 : decode cX6_trio 207 = .ok (.lmul, 1) := dk_105 (dk_at dksX6_trio_8 19 rfl rfl)
theorem dX6_trio_208 : decode cX6_trio 208 = .ok (.aload_n 0, 1) := dk_42 (dk_at dksX6_trio_8 20 rfl rfl)
theorem dX6_trio_209 : decode cX6_trio 209 = .ok (.iload_n 1, 1) := dk_27 (dk_at dksX6_trio_8 21 rfl rfl)
theorem dX6_trio_210 : decode cX6_trio 210 = .ok (.iload_n 2, 1) := dk_28 (dk_at dksX6_trio_8 22 rfl rfl)
theorem dX6_trio_211 : decode cX6_trio 211 = .ok (.invokevirtual 340, 3) := dk_182 1 84 (dk_at dksX6_trio_9 0 rfl rfl)
theorem dX6_trio_214 : decode cX6_trio 214 = .ok (.i2l, 1) := dk_133 (dk_at dksX6_trio_9 3 rfl rfl)
theorem dX6_trio_215 : decode cX6_trio 215 = .ok (.lmul, 1) := dk_105 (dk_at dksX6_trio_9 4 rfl rfl)
theorem dX6_trio_216 : decode cX6_trio 216 = .ok (.ladd, 1) := dk_97 (dk_at dksX6_trio_9 5 rfl rfl)
theorem dX6_trio_217 : decode cX6_trio 217 = .ok (.lstore 10, 2) := dk_55 10 (dk_at dksX6_trio_9 6 rfl rfl)
theorem dX6_trio_219 : decode cX6_trio 219 = .ok (.iload 4, 2) := dk_21 4 (dk_at dksX6_trio_9 8 rfl rfl)
theorem dX6_trio_221 : decode cX6_trio 221 = .ok (.iconst 1, 1) := dk_4 (dk_at dksX6_trio_9 10 rfl rfl)
theorem dX6_trio_222 : decode cX6_trio 222 = .ok (.if_icmp .eq 57, 3) := dk_159 0 57 (dk_at dksX6_trio_9 11 rfl rfl)
theorem dX6_trio_225 : decode cX6_trio 225 = .ok (.lload 10, 2) := dk_22 10 (dk_at dksX6_trio_9 14 rfl rfl)
theorem dX6_trio_227 : decode cX6_trio 227 = .ok (.iload 6, 2) := dk_21 6 (dk_at dksX6_trio_9 16 rfl rfl)
theorem dX6_trio_229 : decode cX6_trio 229 = .ok (.i2l, 1) := dk_133 (dk_at dksX6_trio_9 18 rfl rfl)
theorem dX6_trio_230 : decode cX6_trio 230 = .ok (.iload 4, 2) := dk_21 4 (dk_at dksX6_trio_9 19 rfl rfl)
theorem dX6_trio_232 : decode cX6_trio 232 = .ok (.iconst 2, 1) := dk_5 (dk_at dksX6_trio_9 21 rfl rfl)
theorem dX6_trio_233 : decode cX6_trio 233 = .ok (.if_icmp .ne 12, 3) := dk_160 0 12 (dk_at dksX6_trio_10 0 rfl rfl)
theorem dX6_trio_236 : decode cX6_trio 236 = .ok (.aload_n 0, 1) := dk_42 (dk_at dksX6_trio_10 3 rfl rfl)
theorem dX6_trio_237 : decode cX6_trio 237 = .ok (.iload_n 3, 1) := dk_29 (dk_at dksX6_trio_10 4 rfl rfl)
theorem dX6_trio_238 : decode cX6_trio 238 = .ok (.iload_n 1, 1) := dk_27 (dk_at dksX6_trio_10 5 rfl rfl)
theorem dX6_trio_239 : decode cX6_trio 239 = .ok (.invokevirtual 337, 3) := dk_182 1 81 (dk_at dksX6_trio_10 6 rfl rfl)
theorem dX6_trio_242 : decode cX6_trio 242 = .ok (.goto 16, 3) := dk_167 0 16 (dk_at dksX6_trio_10 9 rfl rfl)
theorem dX6_trio_245 : decode cX6_trio 245 = .ok (.aload_n 0, 1) := dk_42 (dk_at dksX6_trio_10 12 rfl rfl)
theorem dX6_trio_246 : decode cX6_trio 246 = .ok (.iload_n 3, 1) := dk_29 (dk_at dksX6_trio_10 13 rfl rfl)
theorem dX6_trio_247 : decode cX6_trio 247 = .ok (.iload_n 1, 1) := dk_27 (dk_at dksX6_trio_10 14 rfl rfl)
theorem dX6_trio_248 : decode cX6_trio 248 = .ok (.invokevirtual 340, 3) := dk_182 1 84 (dk_at dksX6_trio_10 15 rfl rfl)
theorem dX6_trio_251 : decode cX6_trio 251 = .ok (.aload_n 0, 1) := dk_42 (dk_at dksX6_trio_10 18 rfl rfl)
theorem dX6_trio_252 : decode cX6_trio 252 = .ok (.iload_n 3, 1) := dk_29 (dk_at dksX6_trio_10 19 rfl rfl)
theorem dX6_trio_253 : decode cX6_trio 253 = .ok (.iload_n 1, 1) := dk_27 (dk_at dksX6_trio_10 20 rfl rfl)
theorem dX6_trio_254 : decode cX6_trio 254 = .ok (.invokevirtual 337, 3) := dk_182 1 81 (dk_at dksX6_trio_10 21 rfl rfl)
theorem dX6_trio_257 : decode cX6_trio 257 = .ok (.isub, 1) := dk_100 (dk_at dksX6_trio_11 0 rfl rfl)
theorem dX6_trio_258 : decode cX6_trio 258 = .ok (.i2l, 1) := dk_133 (dk_at dksX6_trio_11 1 rfl rfl)
theorem dX6_trio_259 : decode cX6_trio 259 = .ok (.lmul, 1) := dk_105 (dk_at dksX6_trio_11 2 rfl rfl)
theorem dX6_trio_260 : decode cX6_trio 260 = .ok (.aload_n 0, 1) := dk_42 (dk_at dksX6_trio_11 3 rfl rfl)
theorem dX6_trio_261 : decode cX6_trio 261 = .ok (.iload_n 2, 1) := dk_28 (dk_at dksX6_trio_11 4 rfl rfl)
theorem dX6_trio_262 : decode cX6_trio 262 = .ok (.iload_n 3, 1) := dk_29 (dk_at dksX6_trio_11 5 rfl rfl)
theorem dX6_trio_263 : decode cX6_trio 263 = .ok (.invokevirtual 340, 3) := dk_182 1 84 (dk_at dksX6_trio_11 6 rfl rfl)
theorem dX6_trio_266 : decode cX6_trio 266 = .ok (.i2l, 1) := dk_133 (dk_at dksX6_trio_11 9 rfl rfl)
theorem dX6_trio_267 : decode cX6_trio 267 = .ok (.lmul, 1) := dk_105 (dk_at dksX6_trio_11 10 rfl rfl)
theorem dX6_trio_268 : decode cX6_trio 268 = .ok (.aload_n 0, 1) := dk_42 (dk_at dksX6_trio_11 11 rfl rfl)
theorem dX6_trio_269 : decode cX6_trio 269 = .ok (.iload_n 1, 1) := dk_27 (dk_at dksX6_trio_11 12 rfl rfl)
theorem dX6_trio_270 : decode cX6_trio 270 = .ok (.iload_n 2, 1) := dk_28 (dk_at dksX6_trio_11 13 rfl rfl)
theorem dX6_trio_271 : decode cX6_trio 271 = .ok (.invokevirtual 340, 3) := dk_182 1 84 (dk_at dksX6_trio_11 14 rfl rfl)
theorem dX6_trio_274 : decode cX6_trio 274 = .ok (.i2l, 1) := dk_133 (dk_at dksX6_trio_11 17 rfl rfl)
theorem dX6_trio_275 : decode cX6_trio 275 = .ok (.lmul, 1) := dk_105 (dk_at dksX6_trio_11 18 rfl rfl)
theorem dX6_trio_276 : decode cX6_trio 276 = .ok (.ladd, 1) := dk_97 (dk_at dksX6_trio_11 19 rfl rfl)
theorem dX6_trio_277 : decode cX6_trio 277 = .ok (.lstore 10, 2) := dk_55 10 (dk_at dksX6_trio_11 20 rfl rfl)
theorem dX6_trio_279 : decode cX6_trio 279 = .ok (.iload 4, 2) := dk_21 4 (dk_at dksX6_trio_11 22 rfl rfl)
theorem dX6_trio_281 : decode cX6_trio 281 = .ok (.iconst 2, 1) := dk_5 (dk_at dksX6_trio_12 0 rfl rfl)
theorem dX6_trio_282 : decode cX6_trio 282 = .ok (.if_icmp .eq 56, 3) := dk_159 0 56 (dk_at dksX6_trio_12 1 rfl rfl)
theorem dX6_trio_285 : decode cX6_trio 285 = .ok (.lload 10, 2) := dk_22 10 (dk_at dksX6_trio_12 4 rfl rfl)
theorem dX6_trio_287 : decode cX6_trio 287 = .ok (.iload 7, 2) := dk_21 7 (dk_at dksX6_trio_12 6 rfl rfl)
theorem dX6_trio_289 : decode cX6_trio 289 = .ok (.i2l, 1) := dk_133 (dk_at dksX6_trio_12 8 rfl rfl)
theorem dX6_trio_290 : decode cX6_trio 290 = .ok (.iload 4, 2) := dk_21 4 (dk_at dksX6_trio_12 9 rfl rfl)
theorem dX6_trio_292 : decode cX6_trio 292 = .ok (.ifCond .ne 12, 3) := dk_154 0 12 (dk_at dksX6_trio_12 11 rfl rfl)
theorem dX6_trio_295 : decode cX6_trio 295 = .ok (.aload_n 0, 1) := dk_42 (dk_at dksX6_trio_12 14 rfl rfl)
theorem dX6_trio_296 : decode cX6_trio 296 = .ok (.iload_n 1, 1) := dk_27 (dk_at dksX6_trio_12 15 rfl rfl)
theorem dX6_trio_297 : decode cX6_trio 297 = .ok (.iload_n 2, 1) := dk_28 (dk_at dksX6_trio_12 16 rfl rfl)
theorem dX6_trio_298 : decode cX6_trio 298 = .ok (.invokevirtual 337, 3) := dk_182 1 81 (dk_at dksX6_trio_12 17 rfl rfl)
theorem dX6_trio_301 : decode cX6_trio 301 = .ok (.goto 16, 3) := dk_167 0 16 (dk_at dksX6_trio_12 20 rfl rfl)
theorem dX6_trio_304 : decode cX6_trio 304 = .ok (.aload_n 0, 1) := dk_42 (dk_at dksX6_trio_12 23 rfl rfl)
theorem dX6_trio_305 : decode cX6_trio 305 = .ok (.iload_n 1, 1) := dk_27 (dk_at dksX6_trio_13 0 rfl rfl)
theorem dX6_trio_306 : decode cX6_trio 306 = .ok (.iload_n 2, 1) := dk_28 (dk_at dksX6_trio_13 1 rfl rfl)
theorem dX6_trio_307 : decode cX6_trio 307 = .ok (.invokevirtual 340, 3) := dk_182 1 84 (dk_at dksX6_trio_13 2 rfl rfl)
theorem dX6_trio_310 : decode cX6_trio 310 = .ok (.aload_n 0, 1) := dk_42 (dk_at dksX6_trio_13 5 rfl rfl)
theorem dX6_trio_311 : decode cX6_trio 311 = .ok (.iload_n 1, 1) := dk_27 (dk_at dksX6_trio_13 6 rfl rfl)
theorem dX6_trio_312 : decode cX6_trio 312 = .ok (.iload_n 2, 1) := dk_28 (dk_at dksX6_trio_13 7 rfl rfl)
theorem dX6_trio_313 : decode cX6_trio 313 = .ok (.invokevirtual 337, 3) := dk_182 1 81 (dk_at dksX6_trio_13 8 rfl rfl)
theorem dX6_trio_316 : decode cX6_trio 316 = .ok (.isub, 1) := dk_100 (dk_at dksX6_trio_13 11 rfl rfl)
theorem dX6_trio_317 : decode cX6_trio 317 = .ok (.i2l, 1) := dk_133 (dk_at dksX6_trio_13 12 rfl rfl)
theorem dX6_trio_318 : decode cX6_trio 318 = .ok (.lmul, 1) := dk_105 (dk_at dksX6_trio_13 13 rfl rfl)
theorem dX6_trio_319 : decode cX6_trio 319 = .ok (.aload_n 0, 1) := dk_42 (dk_at dksX6_trio_13 14 rfl rfl)
theorem dX6_trio_320 : decode cX6_trio 320 = .ok (.iload_n 2, 1) := dk_28 (dk_at dksX6_trio_13 15 rfl rfl)
theorem dX6_trio_321 : decode cX6_trio 321 = .ok (.iload_n 3, 1) := dk_29 (dk_at dksX6_trio_13 16 rfl rfl)
theorem dX6_trio_322 : decode cX6_trio 322 = .ok (.invokevirtual 340, 3) := dk_182 1 84 (dk_at dksX6_trio_13 17 rfl rfl)
theorem dX6_trio_325 : decode cX6_trio 325 = .ok (.i2l, 1) := dk_133 (dk_at dksX6_trio_13 20 rfl rfl)
theorem dX6_trio_326 : decode cX6_trio 326 = .ok (.lmul, 1) := dk_105 (dk_at dksX6_trio_13 21 rfl rfl)
theorem dX6_trio_327 : decode cX6_trio 327 = .ok (.aload_n 0, 1) := dk_42 (dk_at dksX6_trio_13 22 rfl rfl)
theorem dX6_trio_328 : decode cX6_trio 328 = .ok (.iload_n 3, 1) := dk_29 (dk_at dksX6_trio_13 23 rfl rfl)
theorem dX6_trio_329 : decode cX6_trio 329 = .ok (.iload_n 1, 1) := dk_27 (dk_at dksX6_trio_14 0 rfl rfl)
theorem dX6_trio_330 : decode cX6_trio 330 = .ok (.invokevirtual 340, 3) := dk_182 1 84 (dk_at dksX6_trio_14 1 rfl rfl)
theorem dX6_trio_333 : decode cX6_trio 333 = .ok (.i2l, 1) := dk_133 (dk_at dksX6_trio_14 4 rfl rfl)
theorem dX6_trio_334 : decode cX6_trio 334 = .ok (.lmul, 1) := dk_105 (dk_at dksX6_trio_14 5 rfl rfl)
theorem dX6_trio_335 : decode cX6_trio 335 = .ok (.ladd, 1) := dk_97 (dk_at dksX6_trio_14 6 rfl rfl)
theorem dX6_trio_336 : decode cX6_trio 336 = .ok (.lstore 10, 2) := dk_55 10 (dk_at dksX6_trio_14 7 rfl rfl)
theorem dX6_trio_338 : decode cX6_trio 338 = .ok (.aload_n 0, 1) := dk_42 (dk_at dksX6_trio_14 9 rfl rfl)
theorem dX6_trio_339 : decode cX6_trio 339 = .ok (.lload 10, 2) := dk_22 10 (dk_at dksX6_trio_14 10 rfl rfl)
theorem dX6_trio_341 : decode cX6_trio 341 = .ok (.lload 8, 2) := dk_22 8 (dk_at dksX6_trio_14 12 rfl rfl)
theorem dX6_trio_343 : decode cX6_trio 343 = .ok (.aload_n 0, 1) := dk_42 (dk_at dksX6_trio_14 14 rfl rfl)
theorem dX6_trio_344 : decode cX6_trio 344 = .ok (.iload_n 1, 1) := dk_27 (dk_at dksX6_trio_14 15 rfl rfl)
theorem dX6_trio_345 : decode cX6_trio 345 = .ok (.iload_n 2, 1) := dk_28 (dk_at dksX6_trio_14 16 rfl rfl)
theorem dX6_trio_346 : decode cX6_trio 346 = .ok (.invokevirtual 340, 3) := dk_182 1 84 (dk_at dksX6_trio_14 17 rfl rfl)
theorem dX6_trio_349 : decode cX6_trio 349 = .ok (.i2l, 1) := dk_133 (dk_at dksX6_trio_14 20 rfl rfl)
theorem dX6_trio_350 : decode cX6_trio 350 = .ok (.lmul, 1) := dk_105 (dk_at dksX6_trio_14 21 rfl rfl)
theorem dX6_trio_351 : decode cX6_trio 351 = .ok (.aload_n 0, 1) := dk_42 (dk_at dksX6_trio_14 22 rfl rfl)
theorem dX6_trio_352 : decode cX6_trio 352 = .ok (.iload_n 2, 1) := dk_28 (dk_at dksX6_trio_14 23 rfl rfl)
theorem dX6_trio_353 : decode cX6_trio 353 = .ok (.iload_n 3, 1) := dk_29 (dk_at dksX6_trio_15 0 rfl rfl)
theorem dX6_trio_354 : decode cX6_trio 354 = .ok (.invokevirtual 340, 3) := dk_182 1 84 (dk_at dksX6_trio_15 1 rfl rfl)
theorem dX6_trio_357 : decode cX6_trio 357 = .ok (.i2l, 1) := dk_133 (dk_at dksX6_trio_15 4 rfl rfl)
theorem dX6_trio_358 : decode cX6_trio 358 = .ok (.lmul, 1) := dk_105 (dk_at dksX6_trio_15 5 rfl rfl)
theorem dX6_trio_359 : decode cX6_trio 359 = .ok (.aload_n 0, 1) := dk_42 (dk_at dksX6_trio_15 6 rfl rfl)
theorem dX6_trio_360 : decode cX6_trio 360 = .ok (.iload_n 3, 1) := dk_29 (dk_at dksX6_trio_15 7 rfl rfl)
theorem dX6_trio_361 : decode cX6_trio 361 = .ok (.iload_n 1, 1) := dk_27 (dk_at dksX6_trio_15 8 rfl rfl)
theorem dX6_trio_362 : decode cX6_trio 362 = .ok (.invokevirtual 340, 3) := dk_182 1 84 (dk_at dksX6_trio_15 9 rfl rfl)
theorem dX6_trio_365 : decode cX6_trio 365 = .ok (.i2l, 1) := dk_133 (dk_at dksX6_trio_15 12 rfl rfl)
theorem dX6_trio_366 : decode cX6_trio 366 = .ok (.lmul, 1) := dk_105 (dk_at dksX6_trio_15 13 rfl rfl)
theorem dX6_trio_367 : decode cX6_trio 367 = .ok (.invokevirtual 343, 3) := dk_182 1 87 (dk_at dksX6_trio_15 14 rfl rfl)
theorem dX6_trio_370 : decode cX6_trio 370 = .ok (.ireturn, 1) := dk_172 (dk_at dksX6_trio_15 17 rfl rfl)
abbrev cX6_reach : ByteArray := prog_16_method_100_code
def yX6_reach : MethodName := ⟨RX6, "reach", "(II)Z"⟩
def dkwX6_reach_3 : List UInt8 := [133, 182, 1, 87, 172]
abbrev dktX6_reach_3 : List UInt8 := dkwX6_reach_3 ++ []
def dkwX6_reach_2 : List UInt8 := [182, 0, 82, 167, 0, 25, 42, 42, 180, 0, 7, 28, 184, 1, 11, 4, 96, 46, 133, 42, 27, 182, 1, 95]
abbrev dktX6_reach_2 : List UInt8 := dkwX6_reach_2 ++ dktX6_reach_3
def dkwX6_reach_1 : List UInt8 := [182, 1, 14, 154, 0, 9, 42, 4, 182, 0, 82, 172, 42, 27, 182, 1, 95, 154, 0, 12, 42, 16, 6]
abbrev dktX6_reach_1 : List UInt8 := dkwX6_reach_1 ++ dktX6_reach_2
def dkwX6_reach_0 : List UInt8 := [27, 155, 0, 28, 27, 42, 182, 0, 251, 163, 0, 20, 42, 28, 182, 0, 248, 153, 0, 12, 42, 27, 28]
abbrev dktX6_reach_0 : List UInt8 := dkwX6_reach_0 ++ dktX6_reach_1
theorem dksX6_reach_0 : cX6_reach.data.toList.drop 0 = dktX6_reach_0 := by decide +kernel
theorem dksX6_reach_1 : cX6_reach.data.toList.drop 23 = dktX6_reach_1 := dk_seg dksX6_reach_0 23 rfl rfl
theorem dksX6_reach_2 : cX6_reach.data.toList.drop 46 = dktX6_reach_2 := dk_seg dksX6_reach_1 23 rfl rfl
theorem dksX6_reach_3 : cX6_reach.data.toList.drop 70 = dktX6_reach_3 := dk_seg dksX6_reach_2 24 rfl rfl
theorem dX6_reach_0 : decode cX6_reach 0 = .ok (.iload_n 1, 1) := dk_27 (dk_at dksX6_reach_0 0 rfl rfl)
theorem dX6_reach_1 : decode cX6_reach 1 = .ok (.ifCond .lt 28, 3) := dk_155 0 28 (dk_at dksX6_reach_0 1 rfl rfl)
theorem dX6_reach_4 : decode cX6_reach 4 = .ok (.iload_n 1, 1) := dk_27 (dk_at dksX6_reach_0 4 rfl rfl)
theorem dX6_reach_5 : decode cX6_reach 5 = .ok (.aload_n 0, 1) := dk_42 (dk_at dksX6_reach_0 5 rfl rfl)
theorem dX6_reach_6 : decode cX6_reach 6 = .ok (.invokevirtual 251, 3) := dk_182 0 251 (dk_at dksX6_reach_0 6 rfl rfl)
theorem dX6_reach_9 : decode cX6_reach 9 = .ok (.if_icmp .gt 20, 3) := dk_163 0 20 (dk_at dksX6_reach_0 9 rfl rfl)
theorem dX6_reach_12 : decode cX6_reach 12 = .ok (.aload_n 0, 1) := dk_42 (dk_at dksX6_reach_0 12 rfl rfl)
theorem dX6_reach_13 : decode cX6_reach 13 = .ok (.iload_n 2, 1) := dk_28 (dk_at dksX6_reach_0 13 rfl rfl)
theorem dX6_reach_14 : decode cX6_reach 14 = .ok (.invokevirtual 248, 3) := dk_182 0 248 (dk_at dksX6_reach_0 14 rfl rfl)
theorem dX6_reach_17 : decode cX6_reach 17 = .ok (.ifCond .eq 12, 3) := dk_153 0 12 (dk_at dksX6_reach_0 17 rfl rfl)
theorem dX6_reach_20 : decode cX6_reach 20 = .ok (.aload_n 0, 1) := dk_42 (dk_at dksX6_reach_0 20 rfl rfl)
theorem dX6_reach_21 : decode cX6_reach 21 = .ok (.iload_n 1, 1) := dk_27 (dk_at dksX6_reach_0 21 rfl rfl)
theorem dX6_reach_22 : decode cX6_reach 22 = .ok (.iload_n 2, 1) := dk_28 (dk_at dksX6_reach_0 22 rfl rfl)
theorem dX6_reach_23 : decode cX6_reach 23 = .ok (.invokevirtual 270, 3) := dk_182 1 14 (dk_at dksX6_reach_1 0 rfl rfl)
theorem dX6_reach_26 : decode cX6_reach 26 = .ok (.ifCond .ne 9, 3) := dk_154 0 9 (dk_at dksX6_reach_1 3 rfl rfl)
theorem dX6_reach_29 : decode cX6_reach 29 = .ok (.aload_n 0, 1) := dk_42 (dk_at dksX6_reach_1 6 rfl rfl)
theorem dX6_reach_30 : decode cX6_reach 30 = .ok (.iconst 1, 1) := dk_4 (dk_at dksX6_reach_1 7 rfl rfl)
theorem dX6_reach_31 : decode cX6_reach 31 = .ok (.invokevirtual 82, 3) := dk_182 0 82 (dk_at dksX6_reach_1 8 rfl rfl)
theorem dX6_reach_34 : decode cX6_reach 34 = .ok (.ireturn, 1) := dk_172 (dk_at dksX6_reach_1 11 rfl rfl)
theorem dX6_reach_35 : decode cX6_reach 35 = .ok (.aload_n 0, 1) := dk_42 (dk_at dksX6_reach_1 12 rfl rfl)
theorem dX6_reach_36 : decode cX6_reach 36 = .ok (.iload_n 1, 1) := dk_27 (dk_at dksX6_reach_1 13 rfl rfl)
theorem dX6_reach_37 : decode cX6_reach 37 = .ok (.invokevirtual 351, 3) := dk_182 1 95 (dk_at dksX6_reach_1 14 rfl rfl)
theorem dX6_reach_40 : decode cX6_reach 40 = .ok (.ifCond .ne 12, 3) := dk_154 0 12 (dk_at dksX6_reach_1 17 rfl rfl)
theorem dX6_reach_43 : decode cX6_reach 43 = .ok (.aload_n 0, 1) := dk_42 (dk_at dksX6_reach_1 20 rfl rfl)
theorem dX6_reach_44 : decode cX6_reach 44 = .ok (.bipush 6, 2) := dk_16 6 (dk_at dksX6_reach_1 21 rfl rfl)
theorem dX6_reach_46 : decode cX6_reach 46 = .ok (.invokevirtual 82, 3) := dk_182 0 82 (dk_at dksX6_reach_2 0 rfl rfl)
theorem dX6_reach_49 : decode cX6_reach 49 = .ok (.goto 25, 3) := dk_167 0 25 (dk_at dksX6_reach_2 3 rfl rfl)
theorem dX6_reach_52 : decode cX6_reach 52 = .ok (.aload_n 0, 1) := dk_42 (dk_at dksX6_reach_2 6 rfl rfl)
theorem dX6_reach_53 : decode cX6_reach 53 = .ok (.aload_n 0, 1) := dk_42 (dk_at dksX6_reach_2 7 rfl rfl)
theorem dX6_reach_54 : decode cX6_reach 54 = .ok (.getfield 7, 3) := dk_180 0 7 (dk_at dksX6_reach_2 8 rfl rfl)
theorem dX6_reach_57 : decode cX6_reach 57 = .ok (.iload_n 2, 1) := dk_28 (dk_at dksX6_reach_2 11 rfl rfl)
theorem dX6_reach_58 : decode cX6_reach 58 = .ok (.invokestatic 267, 3) := dk_184 1 11 (dk_at dksX6_reach_2 12 rfl rfl)
theorem dX6_reach_61 : decode cX6_reach 61 = .ok (.iconst 1, 1) := dk_4 (dk_at dksX6_reach_2 15 rfl rfl)
theorem dX6_reach_62 : decode cX6_reach 62 = .ok (.iadd, 1) := dk_96 (dk_at dksX6_reach_2 16 rfl rfl)
theorem dX6_reach_63 : decode cX6_reach 63 = .ok (.iaload, 1) := dk_46 (dk_at dksX6_reach_2 17 rfl rfl)
theorem dX6_reach_64 : decode cX6_reach 64 = .ok (.i2l, 1) := dk_133 (dk_at dksX6_reach_2 18 rfl rfl)
theorem dX6_reach_65 : decode cX6_reach 65 = .ok (.aload_n 0, 1) := dk_42 (dk_at dksX6_reach_2 19 rfl rfl)
theorem dX6_reach_66 : decode cX6_reach 66 = .ok (.iload_n 1, 1) := dk_27 (dk_at dksX6_reach_2 20 rfl rfl)
theorem dX6_reach_67 : decode cX6_reach 67 = .ok (.invokevirtual 351, 3) := dk_182 1 95 (dk_at dksX6_reach_2 21 rfl rfl)
theorem dX6_reach_70 : decode cX6_reach 70 = .ok (.i2l, 1) := dk_133 (dk_at dksX6_reach_3 0 rfl rfl)
theorem dX6_reach_71 : decode cX6_reach 71 = .ok (.invokevirtual 343, 3) := dk_182 1 87 (dk_at dksX6_reach_3 1 rfl rfl)
theorem dX6_reach_74 : decode cX6_reach 74 = .ok (.ireturn, 1) := dk_172 (dk_at dksX6_reach_3 4 rfl rfl)
abbrev cX6_quickOf : ByteArray := prog_16_method_99_code
def yX6_quickOf : MethodName := ⟨RX6, "quickOf", "(I)I"⟩
def dkwX6_quickOf_2 : List UInt8 := [172]
abbrev dktX6_quickOf_2 : List UInt8 := dkwX6_quickOf_2 ++ []
def dkwX6_quickOf_1 : List UInt8 := [42, 180, 0, 7, 29, 184, 1, 11, 4, 96, 46, 167, 0, 4, 3, 96, 61, 132, 3, 1, 167, 255, 216, 28]
abbrev dktX6_quickOf_1 : List UInt8 := dkwX6_quickOf_1 ++ dktX6_quickOf_2
def dkwX6_quickOf_0 : List UInt8 := [3, 61, 3, 62, 29, 42, 180, 0, 7, 3, 46, 162, 0, 36, 28, 42, 27, 29, 182, 1, 14, 153, 0, 17]
abbrev dktX6_quickOf_0 : List UInt8 := dkwX6_quickOf_0 ++ dktX6_quickOf_1
theorem dksX6_quickOf_0 : cX6_quickOf.data.toList.drop 0 = dktX6_quickOf_0 := by decide +kernel
theorem dksX6_quickOf_1 : cX6_quickOf.data.toList.drop 24 = dktX6_quickOf_1 := dk_seg dksX6_quickOf_0 24 rfl rfl
theorem dksX6_quickOf_2 : cX6_quickOf.data.toList.drop 48 = dktX6_quickOf_2 := dk_seg dksX6_quickOf_1 24 rfl rfl
theorem dX6_quickOf_0 : decode cX6_quickOf 0 = .ok (.iconst 0, 1) := dk_3 (dk_at dksX6_quickOf_0 0 rfl rfl)
theorem dX6_quickOf_1 : decode cX6_quickOf 1 = .ok (.istore_n 2, 1) := dk_61 (dk_at dksX6_quickOf_0 1 rfl rfl)
theorem dX6_quickOf_2 : decode cX6_quickOf 2 = .ok (.iconst 0, 1) := dk_3 (dk_at dksX6_quickOf_0 2 rfl rfl)
theorem dX6_quickOf_3 : decode cX6_quickOf 3 = .ok (.istore_n 3, 1) := dk_62 (dk_at dksX6_quickOf_0 3 rfl rfl)
theorem dX6_quickOf_4 : decode cX6_quickOf 4 = .ok (.iload_n 3, 1) := dk_29 (dk_at dksX6_quickOf_0 4 rfl rfl)
theorem dX6_quickOf_5 : decode cX6_quickOf 5 = .ok (.aload_n 0, 1) := dk_42 (dk_at dksX6_quickOf_0 5 rfl rfl)
theorem dX6_quickOf_6 : decode cX6_quickOf 6 = .ok (.getfield 7, 3) := dk_180 0 7 (dk_at dksX6_quickOf_0 6 rfl rfl)
theorem dX6_quickOf_9 : decode cX6_quickOf 9 = .ok (.iconst 0, 1) := dk_3 (dk_at dksX6_quickOf_0 9 rfl rfl)
theorem dX6_quickOf_10 : decode cX6_quickOf 10 = .ok (.iaload, 1) := dk_46 (dk_at dksX6_quickOf_0 10 rfl rfl)
theorem dX6_quickOf_11 : decode cX6_quickOf 11 = .ok (.if_icmp .ge 36, 3) := dk_162 0 36 (dk_at dksX6_quickOf_0 11 rfl rfl)
theorem dX6_quickOf_14 : decode cX6_quickOf 14 = .ok (.iload_n 2, 1) := dk_28 (dk_at dksX6_quickOf_0 14 rfl rfl)
theorem dX6_quickOf_15 : decode cX6_quickOf 15 = .ok (.aload_n 0, 1) := dk_42 (dk_at dksX6_quickOf_0 15 rfl rfl)
theorem dX6_quickOf_16 : decode cX6_quickOf 16 = .ok (.iload_n 1, 1) := dk_27 (dk_at dksX6_quickOf_0 16 rfl rfl)
theorem dX6_quickOf_17 : decode cX6_quickOf 17 = .ok (.iload_n 3, 1) := dk_29 (dk_at dksX6_quickOf_0 17 rfl rfl)
theorem dX6_quickOf_18 : decode cX6_quickOf 18 = .ok (.invokevirtual 270, 3) := dk_182 1 14 (dk_at dksX6_quickOf_0 18 rfl rfl)
theorem dX6_quickOf_21 : decode cX6_quickOf 21 = .ok (.ifCond .eq 17, 3) := dk_153 0 17 (dk_at dksX6_quickOf_0 21 rfl rfl)
theorem dX6_quickOf_24 : decode cX6_quickOf 24 = .ok (.aload_n 0, 1) := dk_42 (dk_at dksX6_quickOf_1 0 rfl rfl)
theorem dX6_quickOf_25 : decode cX6_quickOf 25 = .ok (.getfield 7, 3) := dk_180 0 7 (dk_at dksX6_quickOf_1 1 rfl rfl)
theorem dX6_quickOf_28 : decode cX6_quickOf 28 = .ok (.iload_n 3, 1) := dk_29 (dk_at dksX6_quickOf_1 4 rfl rfl)
theorem dX6_quickOf_29 : decode cX6_quickOf 29 = .ok (.invokestatic 267, 3) := dk_184 1 11 (dk_at dksX6_quickOf_1 5 rfl rfl)
theorem dX6_quickOf_32 : decode cX6_quickOf 32 = .ok (.iconst 1, 1) := dk_4 (dk_at dksX6_quickOf_1 8 rfl rfl)
theorem dX6_quickOf_33 : decode cX6_quickOf 33 = .ok (.iadd, 1) := dk_96 (dk_at dksX6_quickOf_1 9 rfl rfl)
theorem dX6_quickOf_34 : decode cX6_quickOf 34 = .ok (.iaload, 1) := dk_46 (dk_at dksX6_quickOf_1 10 rfl rfl)
theorem dX6_quickOf_35 : decode cX6_quickOf 35 = .ok (.goto 4, 3) := dk_167 0 4 (dk_at dksX6_quickOf_1 11 rfl rfl)
theorem dX6_quickOf_38 : decode cX6_quickOf 38 = .ok (.iconst 0, 1) := dk_3 (dk_at dksX6_quickOf_1 14 rfl rfl)
theorem dX6_quickOf_39 : decode cX6_quickOf 39 = .ok (.iadd, 1) := dk_96 (dk_at dksX6_quickOf_1 15 rfl rfl)
theorem dX6_quickOf_40 : decode cX6_quickOf 40 = .ok (.istore_n 2, 1) := dk_61 (dk_at dksX6_quickOf_1 16 rfl rfl)
theorem dX6_quickOf_41 : decode cX6_quickOf 41 = .ok (.iinc 3 1, 3) := dk_132 3 1 (dk_at dksX6_quickOf_1 17 rfl rfl)
theorem dX6_quickOf_44 : decode cX6_quickOf 44 = .ok (.goto (-40), 3) := dk_167 255 216 (dk_at dksX6_quickOf_1 20 rfl rfl)
theorem dX6_quickOf_47 : decode cX6_quickOf 47 = .ok (.iload_n 2, 1) := dk_28 (dk_at dksX6_quickOf_1 23 rfl rfl)
theorem dX6_quickOf_48 : decode cX6_quickOf 48 = .ok (.ireturn, 1) := dk_172 (dk_at dksX6_quickOf_2 0 rfl rfl)
abbrev cX6_easyOn : ByteArray := prog_16_method_101_code
def yX6_easyOn : MethodName := ⟨RX6, "easyOn", "(I)I"⟩
def dkwX6_easyOn_3 : List UInt8 := [29, 182, 1, 84, 104, 162, 0, 5, 29, 61, 132, 3, 1, 167, 255, 190, 42, 28, 182, 1, 35, 172]
abbrev dktX6_easyOn_3 : List UInt8 := dkwX6_easyOn_3 ++ []
def dkwX6_easyOn_2 : List UInt8 := [159, 0, 32, 42, 27, 29, 182, 1, 81, 42, 27, 28, 182, 1, 84, 104, 42, 27, 28, 182, 1, 81, 42, 27]
abbrev dktX6_easyOn_2 : List UInt8 := dkwX6_easyOn_2 ++ dktX6_easyOn_3
def dkwX6_easyOn_1 : List UInt8 := [46, 162, 0, 62, 29, 27, 159, 0, 51, 42, 27, 29, 182, 1, 78, 153, 0, 6, 167, 0, 39, 28, 2]
abbrev dktX6_easyOn_1 : List UInt8 := dkwX6_easyOn_1 ++ dktX6_easyOn_2
def dkwX6_easyOn_0 : List UInt8 := [42, 27, 182, 0, 248, 154, 0, 9, 42, 4, 182, 0, 75, 172, 2, 61, 3, 62, 29, 42, 180, 0, 7, 3]
abbrev dktX6_easyOn_0 : List UInt8 := dkwX6_easyOn_0 ++ dktX6_easyOn_1
theorem dksX6_easyOn_0 : cX6_easyOn.data.toList.drop 0 = dktX6_easyOn_0 := by decide +kernel
theorem dksX6_easyOn_1 : cX6_easyOn.data.toList.drop 24 = dktX6_easyOn_1 := dk_seg dksX6_easyOn_0 24 rfl rfl
theorem dksX6_easyOn_2 : cX6_easyOn.data.toList.drop 47 = dktX6_easyOn_2 := dk_seg dksX6_easyOn_1 23 rfl rfl
theorem dksX6_easyOn_3 : cX6_easyOn.data.toList.drop 71 = dktX6_easyOn_3 := dk_seg dksX6_easyOn_2 24 rfl rfl
theorem dX6_easyOn_0 : decode cX6_easyOn 0 = .ok (.aload_n 0, 1) := dk_42 (dk_at dksX6_easyOn_0 0 rfl rfl)
theorem dX6_easyOn_1 : decode cX6_easyOn 1 = .ok (.iload_n 1, 1) := dk_27 (dk_at dksX6_easyOn_0 1 rfl rfl)
theorem dX6_easyOn_2 : decode cX6_easyOn 2 = .ok (.invokevirtual 248, 3) := dk_182 0 248 (dk_at dksX6_easyOn_0 2 rfl rfl)
theorem dX6_easyOn_5 : decode cX6_easyOn 5 = .ok (.ifCond .ne 9, 3) := dk_154 0 9 (dk_at dksX6_easyOn_0 5 rfl rfl)
theorem dX6_easyOn_8 : decode cX6_easyOn 8 = .ok (.aload_n 0, 1) := dk_42 (dk_at dksX6_easyOn_0 8 rfl rfl)
theorem dX6_easyOn_9 : decode cX6_easyOn 9 = .ok (.iconst 1, 1) := dk_4 (dk_at dksX6_easyOn_0 9 rfl rfl)
theorem dX6_easyOn_10 : decode cX6_easyOn 10 = .ok (.invokevirtual 75, 3) := dk_182 0 75 (dk_at dksX6_easyOn_0 10 rfl rfl)
theorem dX6_easyOn_13 : decode cX6_easyOn 13 = .ok (.ireturn, 1) := dk_172 (dk_at dksX6_easyOn_0 13 rfl rfl)
theorem dX6_easyOn_14 : decode cX6_easyOn 14 = .ok (.iconst (-1), 1) := dk_2 (dk_at dksX6_easyOn_0 14 rfl rfl)
theorem dX6_easyOn_15 : decode cX6_easyOn 15 = .ok (.istore_n 2, 1) := dk_61 (dk_at dksX6_easyOn_0 15 rfl rfl)
theorem dX6_easyOn_16 : decode cX6_easyOn 16 = .ok (.iconst 0, 1) := dk_3 (dk_at dksX6_easyOn_0 16 rfl rfl)
theorem dX6_easyOn_17 : decode cX6_easyOn 17 = .ok (.istore_n 3, 1) := dk_62 (dk_at dksX6_easyOn_0 17 rfl rfl)
theorem dX6_easyOn_18 : decode cX6_easyOn 18 = .ok (.iload_n 3, 1) := dk_29 (dk_at dksX6_easyOn_0 18 rfl rfl)
theorem dX6_easyOn_19 : decode cX6_easyOn 19 = .ok (.aload_n 0, 1) := dk_42 (dk_at dksX6_easyOn_0 19 rfl rfl)
theorem dX6_easyOn_20 : decode cX6_easyOn 20 = .ok (.getfield 7, 3) := dk_180 0 7 (dk_at dksX6_easyOn_0 20 rfl rfl)
theorem dX6_easyOn_23 : decode cX6_easyOn 23 = .ok (.iconst 0, 1) := dk_3 (dk_at dksX6_easyOn_0 23 rfl rfl)
theorem dX6_easyOn_24 : decode cX6_easyOn 24 = .ok (.iaload, 1) := dk_46 (dk_at dksX6_easyOn_1 0 rfl rfl)
theorem dX6_easyOn_25 : decode cX6_easyOn 25 = .ok (.if_icmp .ge 62, 3) := dk_162 0 62 (dk_at dksX6_easyOn_1 1 rfl rfl)
theorem dX6_easyOn_28 : decode cX6_easyOn 28 = .ok (.iload_n 3, 1) := dk_29 (dk_at dksX6_easyOn_1 4 rfl rfl)
theorem dX6_easyOn_29 : decode cX6_easyOn 29 = .ok (.iload_n 1, 1) := dk_27 (dk_at dksX6_easyOn_1 5 rfl rfl)
theorem dX6_easyOn_30 : decode cX6_easyOn 30 = .ok (.if_icmp .eq 51, 3) := dk_159 0 51 (dk_at dksX6_easyOn_1 6 rfl rfl)
theorem dX6_easyOn_33 : decode cX6_easyOn 33 = .ok (.aload_n 0, 1) := dk_42 (dk_at dksX6_easyOn_1 9 rfl rfl)
theorem dX6_easyOn_34 : decode cX6_easyOn 34 = .ok (.iload_n 1, 1) := dk_27 (dk_at dksX6_easyOn_1 10 rfl rfl)
theorem dX6_easyOn_35 : decode cX6_easyOn 35 = .ok (.iload_n 3, 1) := dk_29 (dk_at dksX6_easyOn_1 11 rfl rfl)
theorem dX6_easyOn_36 : decode cX6_easyOn 36 = .ok (.invokevirtual 334, 3) := dk_182 1 78 (dk_at dksX6_easyOn_1 12 rfl rfl)
theorem dX6_easyOn_39 : decode cX6_easyOn 39 = .ok (.ifCond .eq 6, 3) := dk_153 0 6 (dk_at dksX6_easyOn_1 15 rfl rfl)
theorem dX6_easyOn_42 : decode cX6_easyOn 42 = .ok (.goto 39, 3) := dk_167 0 39 (dk_at dksX6_easyOn_1 18 rfl rfl)
theorem dX6_easyOn_45 : decode cX6_easyOn 45 = .ok (.iload_n 2, 1) := dk_28 (dk_at dksX6_easyOn_1 21 rfl rfl)
theorem dX6_easyOn_46 : decode cX6_easyOn 46 = .ok (.iconst (-1), 1) := dk_2 (dk_at dksX6_easyOn_1 22 rfl rfl)
theorem dX6_easyOn_47 : decode cX6_easyOn 47 = .ok (.if_icmp .eq 32, 3) := dk_159 0 32 (dk_at dksX6_easyOn_2 0 rfl rfl)
theorem dX6_easyOn_50 : decode cX6_easyOn 50 = .ok (.aload_n 0, 1) := dk_42 (dk_at dksX6_easyOn_2 3 rfl rfl)
theorem dX6_easyOn_51 : decode cX6_easyOn 51 = .ok (.iload_n 1, 1) := dk_27 (dk_at dksX6_easyOn_2 4 rfl rfl)
theorem dX6_easyOn_52 : decode cX6_easyOn 52 = .ok (.iload_n 3, 1) := dk_29 (dk_at dksX6_easyOn_2 5 rfl rfl)
theorem dX6_easyOn_53 : decode cX6_easyOn 53 = .ok (.invokevirtual 337, 3) := dk_182 1 81 (dk_at dksX6_easyOn_2 6 rfl rfl)
theorem dX6_easyOn_56 : decode cX6_easyOn 56 = .ok (.aload_n 0, 1) := dk_42 (dk_at dksX6_easyOn_2 9 rfl rfl)
theorem dX6_easyOn_57 : decode cX6_easyOn 57 = .ok (.iload_n 1, 1) := dk_27 (dk_at dksX6_easyOn_2 10 rfl rfl)
theorem dX6_easyOn_58 : decode cX6_easyOn 58 = .ok (.iload_n 2, 1) := dk_28 (dk_at dksX6_easyOn_2 11 rfl rfl)
theorem dX6_easyOn_59 : decode cX6_easyOn 59 = .ok (.invokevirtual 340, 3) := dk_182 1 84 (dk_at dksX6_easyOn_2 12 rfl rfl)
theorem dX6_easyOn_62 : decode cX6_easyOn 62 = .ok (.imul, 1) := dk_104 (dk_at dksX6_easyOn_2 15 rfl rfl)
theorem dX6_easyOn_63 : decode cX6_easyOn 63 = .ok (.aload_n 0, 1) := dk_42 (dk_at dksX6_easyOn_2 16 rfl rfl)
theorem dX6_easyOn_64 : decode cX6_easyOn 64 = .ok (.iload_n 1, 1) := dk_27 (dk_at dksX6_easyOn_2 17 rfl rfl)
theorem dX6_easyOn_65 : decode cX6_easyOn 65 = .ok (.iload_n 2, 1) := dk_28 (dk_at dksX6_easyOn_2 18 rfl rfl)
theorem dX6_easyOn_66 : decode cX6_easyOn 66 = .ok (.invokevirtual 337, 3) := dk_182 1 81 (dk_at dksX6_easyOn_2 19 rfl rfl)
theorem dX6_easyOn_69 : decode cX6_easyOn 69 = .ok (.aload_n 0, 1) := dk_42 (dk_at dksX6_easyOn_2 22 rfl rfl)
theorem dX6_easyOn_70 : decode cX6_easyOn 70 = .ok (.iload_n 1, 1) := dk_27 (dk_at dksX6_easyOn_2 23 rfl rfl)
theorem dX6_easyOn_71 : decode cX6_easyOn 71 = .ok (.iload_n 3, 1) := dk_29 (dk_at dksX6_easyOn_3 0 rfl rfl)
theorem dX6_easyOn_72 : decode cX6_easyOn 72 = .ok (.invokevirtual 340, 3) := dk_182 1 84 (dk_at dksX6_easyOn_3 1 rfl rfl)
theorem dX6_easyOn_75 : decode cX6_easyOn 75 = .ok (.imul, 1) := dk_104 (dk_at dksX6_easyOn_3 4 rfl rfl)
theorem dX6_easyOn_76 : decode cX6_easyOn 76 = .ok (.if_icmp .ge 5, 3) := dk_162 0 5 (dk_at dksX6_easyOn_3 5 rfl rfl)
theorem dX6_easyOn_79 : decode cX6_easyOn 79 = .ok (.iload_n 3, 1) := dk_29 (dk_at dksX6_easyOn_3 8 rfl rfl)
theorem dX6_easyOn_80 : decode cX6_easyOn 80 = .ok (.istore_n 2, 1) := dk_61 (dk_at dksX6_easyOn_3 9 rfl rfl)
theorem dX6_easyOn_81 : decode cX6_easyOn 81 = .ok (.iinc 3 1, 3) := dk_132 3 1 (dk_at dksX6_easyOn_3 10 rfl rfl)
theorem dX6_easyOn_84 : decode cX6_easyOn 84 = .ok (.goto (-66), 3) := dk_167 255 190 (dk_at dksX6_easyOn_3 13 rfl rfl)
theorem dX6_easyOn_87 : decode cX6_easyOn 87 = .ok (.aload_n 0, 1) := dk_42 (dk_at dksX6_easyOn_3 16 rfl rfl)
theorem dX6_easyOn_88 : decode cX6_easyOn 88 = .ok (.iload_n 2, 1) := dk_28 (dk_at dksX6_easyOn_3 17 rfl rfl)
theorem dX6_easyOn_89 : decode cX6_easyOn 89 = .ok (.invokevirtual 291, 3) := dk_182 1 35 (dk_at dksX6_easyOn_3 18 rfl rfl)
theorem dX6_easyOn_92 : decode cX6_easyOn 92 = .ok (.ireturn, 1) := dk_172 (dk_at dksX6_easyOn_3 21 rfl rfl)
abbrev cX6_regret : ByteArray := prog_16_method_103_code
def yX6_regret : MethodName := ⟨RX6, "regret", "(I)I"⟩
def dkwX6_regret_1 : List UInt8 := [182, 0, 75, 172]
abbrev dktX6_regret_1 : List UInt8 := dkwX6_regret_1 ++ []
def dkwX6_regret_0 : List UInt8 := [42, 27, 182, 0, 248, 153, 0, 15, 42, 42, 27, 182, 1, 98, 182, 0, 79, 167, 0, 8, 42, 4]
abbrev dktX6_regret_0 : List UInt8 := dkwX6_regret_0 ++ dktX6_regret_1
theorem dksX6_regret_0 : cX6_regret.data.toList.drop 0 = dktX6_regret_0 := by decide +kernel
theorem dksX6_regret_1 : cX6_regret.data.toList.drop 22 = dktX6_regret_1 := dk_seg dksX6_regret_0 22 rfl rfl
theorem dX6_regret_0 : decode cX6_regret 0 = .ok (.aload_n 0, 1) := dk_42 (dk_at dksX6_regret_0 0 rfl rfl)
theorem dX6_regret_1 : decode cX6_regret 1 = .ok (.iload_n 1, 1) := dk_27 (dk_at dksX6_regret_0 1 rfl rfl)
theorem dX6_regret_2 : decode cX6_regret 2 = .ok (.invokevirtual 248, 3) := dk_182 0 248 (dk_at dksX6_regret_0 2 rfl rfl)
theorem dX6_regret_5 : decode cX6_regret 5 = .ok (.ifCond .eq 15, 3) := dk_153 0 15 (dk_at dksX6_regret_0 5 rfl rfl)
theorem dX6_regret_8 : decode cX6_regret 8 = .ok (.aload_n 0, 1) := dk_42 (dk_at dksX6_regret_0 8 rfl rfl)
theorem dX6_regret_9 : decode cX6_regret 9 = .ok (.aload_n 0, 1) := dk_42 (dk_at dksX6_regret_0 9 rfl rfl)
theorem dX6_regret_10 : decode cX6_regret 10 = .ok (.iload_n 1, 1) := dk_27 (dk_at dksX6_regret_0 10 rfl rfl)
theorem dX6_regret_11 : decode cX6_regret 11 = .ok (.invokevirtual 354, 3) := dk_182 1 98 (dk_at dksX6_regret_0 11 rfl rfl)
theorem dX6_regret_14 : decode cX6_regret 14 = .ok (.invokevirtual 79, 3) := dk_182 0 79 (dk_at dksX6_regret_0 14 rfl rfl)
theorem dX6_regret_17 : decode cX6_regret 17 = .ok (.goto 8, 3) := dk_167 0 8 (dk_at dksX6_regret_0 17 rfl rfl)
theorem dX6_regret_20 : decode cX6_regret 20 = .ok (.aload_n 0, 1) := dk_42 (dk_at dksX6_regret_0 20 rfl rfl)
theorem dX6_regret_21 : decode cX6_regret 21 = .ok (.iconst 1, 1) := dk_4 (dk_at dksX6_regret_0 21 rfl rfl)
theorem dX6_regret_22 : decode cX6_regret 22 = .ok (.invokevirtual 75, 3) := dk_182 0 75 (dk_at dksX6_regret_1 0 rfl rfl)
theorem dX6_regret_25 : decode cX6_regret 25 = .ok (.ireturn, 1) := dk_172 (dk_at dksX6_regret_1 3 rfl rfl)
abbrev cX6_regretOf : ByteArray := prog_16_method_102_code
def yX6_regretOf : MethodName := ⟨RX6, "regretOf", "(I)I"⟩
def dkwX6_regretOf_1 : List UInt8 := [96, 46, 100, 104, 42, 27, 182, 1, 63, 100, 172]
abbrev dktX6_regretOf_1 : List UInt8 := dkwX6_regretOf_1 ++ []
def dkwX6_regretOf_0 : List UInt8 := [42, 180, 0, 7, 27, 184, 1, 11, 5, 96, 46, 42, 182, 1, 32, 42, 180, 0, 7, 27, 184, 1, 11, 8]
abbrev dktX6_regretOf_0 : List UInt8 := dkwX6_regretOf_0 ++ dktX6_regretOf_1
theorem dksX6_regretOf_0 : cX6_regretOf.data.toList.drop 0 = dktX6_regretOf_0 := by decide +kernel
theorem dksX6_regretOf_1 : cX6_regretOf.data.toList.drop 24 = dktX6_regretOf_1 := dk_seg dksX6_regretOf_0 24 rfl rfl
theorem dX6_regretOf_0 : decode cX6_regretOf 0 = .ok (.aload_n 0, 1) := dk_42 (dk_at dksX6_regretOf_0 0 rfl rfl)
theorem dX6_regretOf_1 : decode cX6_regretOf 1 = .ok (.getfield 7, 3) := dk_180 0 7 (dk_at dksX6_regretOf_0 1 rfl rfl)
theorem dX6_regretOf_4 : decode cX6_regretOf 4 = .ok (.iload_n 1, 1) := dk_27 (dk_at dksX6_regretOf_0 4 rfl rfl)
theorem dX6_regretOf_5 : decode cX6_regretOf 5 = .ok (.invokestatic 267, 3) := dk_184 1 11 (dk_at dksX6_regretOf_0 5 rfl rfl)
theorem dX6_regretOf_8 : decode cX6_regretOf 8 = .ok (.iconst 2, 1) := dk_5 (dk_at dksX6_regretOf_0 8 rfl rfl)
theorem dX6_regretOf_9 : decode cX6_regretOf 9 = .ok (.iadd, 1) := dk_96 (dk_at dksX6_regretOf_0 9 rfl rfl)
theorem dX6_regretOf_10 : decode cX6_regretOf 10 = .ok (.iaload, 1) := dk_46 (dk_at dksX6_regretOf_0 10 rfl rfl)
theorem dX6_regretOf_11 : decode cX6_regretOf 11 = .ok (.aload_n 0, 1) := dk_42 (dk_at dksX6_regretOf_0 11 rfl rfl)
theorem dX6_regretOf_12 : decode cX6_regretOf 12 = .ok (.invokevirtual 288, 3) := dk_182 1 32 (dk_at dksX6_regretOf_0 12 rfl rfl)
theorem dX6_regretOf_15 : decode cX6_regretOf 15 = .ok (.aload_n 0, 1) := dk_42 (dk_at dksX6_regretOf_0 15 rfl rfl)
theorem dX6_regretOf_16 : decode cX6_regretOf 16 = .ok (.getfield 7, 3) := dk_180 0 7 (dk_at dksX6_regretOf_0 16 rfl rfl)
theorem dX6_regretOf_19 : decode cX6_regretOf 19 = .ok (.iload_n 1, 1) := dk_27 (dk_at dksX6_regretOf_0 19 rfl rfl)
theorem dX6_regretOf_20 : decode cX6_regretOf 20 = .ok (.invokestatic 267, 3) := dk_184 1 11 (dk_at dksX6_regretOf_0 20 rfl rfl)
theorem dX6_regretOf_23 : decode cX6_regretOf 23 = .ok (.iconst 5, 1) := dk_8 (dk_at dksX6_regretOf_0 23 rfl rfl)
theorem dX6_regretOf_24 : decode cX6_regretOf 24 = .ok (.iadd, 1) := dk_96 (dk_at dksX6_regretOf_1 0 rfl rfl)
theorem dX6_regretOf_25 : decode cX6_regretOf 25 = .ok (.iaload, 1) := dk_46 (dk_at dksX6_regretOf_1 1 rfl rfl)
theorem dX6_regretOf_26 : decode cX6_regretOf 26 = .ok (.isub, 1) := dk_100 (dk_at dksX6_regretOf_1 2 rfl rfl)
theorem dX6_regretOf_27 : decode cX6_regretOf 27 = .ok (.imul, 1) := dk_104 (dk_at dksX6_regretOf_1 3 rfl rfl)
theorem dX6_regretOf_28 : decode cX6_regretOf 28 = .ok (.aload_n 0, 1) := dk_42 (dk_at dksX6_regretOf_1 4 rfl rfl)
theorem dX6_regretOf_29 : decode cX6_regretOf 29 = .ok (.iload_n 1, 1) := dk_27 (dk_at dksX6_regretOf_1 5 rfl rfl)
theorem dX6_regretOf_30 : decode cX6_regretOf 30 = .ok (.invokevirtual 319, 3) := dk_182 1 63 (dk_at dksX6_regretOf_1 6 rfl rfl)
theorem dX6_regretOf_33 : decode cX6_regretOf 33 = .ok (.isub, 1) := dk_100 (dk_at dksX6_regretOf_1 9 rfl rfl)
theorem dX6_regretOf_34 : decode cX6_regretOf 34 = .ok (.ireturn, 1) := dk_172 (dk_at dksX6_regretOf_1 10 rfl rfl)
abbrev cX6_sorest : ByteArray := prog_16_method_104_code
def yX6_sorest : MethodName := ⟨RX6, "sorest", "()I"⟩
def dkwX6_sorest_1 : List UInt8 := [42, 27, 182, 1, 98, 164, 0, 5, 28, 60, 132, 2, 1, 167, 255, 223, 42, 27, 182, 1, 35, 172]
abbrev dktX6_sorest_1 : List UInt8 := dkwX6_sorest_1 ++ []
def dkwX6_sorest_0 : List UInt8 := [2, 60, 3, 61, 28, 42, 180, 0, 7, 3, 46, 162, 0, 29, 27, 2, 159, 0, 16, 42, 28, 182, 1, 98]
abbrev dktX6_sorest_0 : List UInt8 := dkwX6_sorest_0 ++ dktX6_sorest_1
theorem dksX6_sorest_0 : cX6_sorest.data.toList.drop 0 = dktX6_sorest_0 := by decide +kernel
theorem dksX6_sorest_1 : cX6_sorest.data.toList.drop 24 = dktX6_sorest_1 := dk_seg dksX6_sorest_0 24 rfl rfl
theorem dX6_sorest_0 : decode cX6_sorest 0 = .ok (.iconst (-1), 1) := dk_2 (dk_at dksX6_sorest_0 0 rfl rfl)
theorem dX6_sorest_1 : decode cX6_sorest 1 = .ok (.istore_n 1, 1) := dk_60 (dk_at dksX6_sorest_0 1 rfl rfl)
theorem dX6_sorest_2 : decode cX6_sorest 2 = .ok (.iconst 0, 1) := dk_3 (dk_at dksX6_sorest_0 2 rfl rfl)
theorem dX6_sorest_3 : decode cX6_sorest 3 = .ok (.istore_n 2, 1) := dk_61 (dk_at dksX6_sorest_0 3 rfl rfl)
theorem dX6_sorest_4 : decode cX6_sorest 4 = .ok (.iload_n 2, 1) := dk_28 (dk_at dksX6_sorest_0 4 rfl rfl)
theorem dX6_sorest_5 : decode cX6_sorest 5 = .ok (.aload_n 0, 1) := dk_42 (dk_at dksX6_sorest_0 5 rfl rfl)
theorem dX6_sorest_6 : decode cX6_sorest 6 = .ok (.getfield 7, 3) := dk_180 0 7 (dk_at dksX6_sorest_0 6 rfl rfl)
theorem dX6_sorest_9 : decode cX6_sorest 9 = .ok (.iconst 0, 1) := dk_3 (dk_at dksX6_sorest_0 9 rfl rfl)
theorem dX6_sorest_10 : decode cX6_sorest 10 = .ok (.iaload, 1) := dk_46 (dk_at dksX6_sorest_0 10 rfl rfl)
theorem dX6_sorest_11 : decode cX6_sorest 11 = .ok (.if_icmp .ge 29, 3) := dk_162 0 29 (dk_at dksX6_sorest_0 11 rfl rfl)
theorem dX6_sorest_14 : decode cX6_sorest 14 = .ok (.iload_n 1, 1) := dk_27 (dk_at dksX6_sorest_0 14 rfl rfl)
theorem dX6_sorest_15 : decode cX6_sorest 15 = .ok (.iconst (-1), 1) := dk_2 (dk_at dksX6_sorest_0 15 rfl rfl)
theorem dX6_sorest_16 : decode cX6_sorest 16 = .ok (.if_icmp .eq 16, 3) := dk_159 0 16 (dk_at dksX6_sorest_0 16 rfl rfl)
theorem dX6_sorest_19 : decode cX6_sorest 19 = .ok (.aload_n 0, 1) := dk_42 (dk_at dksX6_sorest_0 19 rfl rfl)
theorem dX6_sorest_20 : decode cX6_sorest 20 = .ok (.iload_n 2, 1) := dk_28 (dk_at dksX6_sorest_0 20 rfl rfl)
theorem dX6_sorest_21 : decode cX6_sorest 21 = .ok (.invokevirtual 354, 3) := dk_182 1 98 (dk_at dksX6_sorest_0 21 rfl rfl)
theorem dX6_sorest_24 : decode cX6_sorest 24 = .ok (.aload_n 0, 1) := dk_42 (dk_at dksX6_sorest_1 0 rfl rfl)
theorem dX6_sorest_25 : decode cX6_sorest 25 = .ok (.iload_n 1, 1) := dk_27 (dk_at dksX6_sorest_1 1 rfl rfl)
theorem dX6_sorest_26 : decode cX6_sorest 26 = .ok (.invokevirtual 354, 3) := dk_182 1 98 (dk_at dksX6_sorest_1 2 rfl rfl)
theorem dX6_sorest_29 : decode cX6_sorest 29 = .ok (.if_icmp .le 5, 3) := dk_164 0 5 (dk_at dksX6_sorest_1 5 rfl rfl)
theorem dX6_sorest_32 : decode cX6_sorest 32 = .ok (.iload_n 2, 1) := dk_28 (dk_at dksX6_sorest_1 8 rfl rfl)
theorem dX6_sorest_33 : decode cX6_sorest 33 = .ok (.istore_n 1, 1) := dk_60 (dk_at dksX6_sorest_1 9 rfl rfl)
theorem dX6_sorest_34 : decode cX6_sorest 34 = .ok (.iinc 2 1, 3) := dk_132 2 1 (dk_at dksX6_sorest_1 10 rfl rfl)
theorem dX6_sorest_37 : decode cX6_sorest 37 = .ok (.goto (-33), 3) := dk_167 255 223 (dk_at dksX6_sorest_1 13 rfl rfl)
theorem dX6_sorest_40 : decode cX6_sorest 40 = .ok (.aload_n 0, 1) := dk_42 (dk_at dksX6_sorest_1 16 rfl rfl)
theorem dX6_sorest_41 : decode cX6_sorest 41 = .ok (.iload_n 1, 1) := dk_27 (dk_at dksX6_sorest_1 17 rfl rfl)
theorem dX6_sorest_42 : decode cX6_sorest 42 = .ok (.invokevirtual 291, 3) := dk_182 1 35 (dk_at dksX6_sorest_1 18 rfl rfl)
theorem dX6_sorest_45 : decode cX6_sorest 45 = .ok (.ireturn, 1) := dk_172 (dk_at dksX6_sorest_1 21 rfl rfl)
abbrev cX6_owes : ByteArray := prog_16_method_105_code
def yX6_owes : MethodName := ⟨RX6, "owes", "(II)I"⟩
def dkwX6_owes_1 : List UInt8 := [167, 0, 8, 42, 4, 182, 0, 75, 172]
abbrev dktX6_owes_1 : List UInt8 := dkwX6_owes_1 ++ []
def dkwX6_owes_0 : List UInt8 := [42, 27, 28, 182, 1, 75, 153, 0, 20, 42, 42, 180, 0, 7, 27, 28, 184, 1, 56, 46, 182, 0, 79]
abbrev dktX6_owes_0 : List UInt8 := dkwX6_owes_0 ++ dktX6_owes_1
theorem dksX6_owes_0 : cX6_owes.data.toList.drop 0 = dktX6_owes_0 := by decide +kernel
theorem dksX6_owes_1 : cX6_owes.data.toList.drop 23 = dktX6_owes_1 := dk_seg dksX6_owes_0 23 rfl rfl
theorem dX6_owes_0 : decode cX6_owes 0 = .ok (.aload_n 0, 1) := dk_42 (dk_at dksX6_owes_0 0 rfl rfl)
theorem dX6_owes_1 : decode cX6_owes 1 = .ok (.iload_n 1, 1) := dk_27 (dk_at dksX6_owes_0 1 rfl rfl)
theorem dX6_owes_2 : decode cX6_owes 2 = .ok (.iload_n 2, 1) := dk_28 (dk_at dksX6_owes_0 2 rfl rfl)
theorem dX6_owes_3 : decode cX6_owes 3 = .ok (.invokevirtual 331, 3) := dk_182 1 75 (dk_at dksX6_owes_0 3 rfl rfl)
theorem dX6_owes_6 : decode cX6_owes 6 = .ok (.ifCond .eq 20, 3) := dk_153 0 20 (dk_at dksX6_owes_0 6 rfl rfl)
theorem dX6_owes_9 : decode cX6_owes 9 = .ok (.aload_n 0, 1) := dk_42 (dk_at dksX6_owes_0 9 rfl rfl)
theorem dX6_owes_10 : decode cX6_owes 10 = .ok (.aload_n 0, 1) := dk_42 (dk_at dksX6_owes_0 10 rfl rfl)
theorem dX6_owes_11 : decode cX6_owes 11 = .ok (.getfield 7, 3) := dk_180 0 7 (dk_at dksX6_owes_0 11 rfl rfl)
theorem dX6_owes_14 : decode cX6_owes 14 = .ok (.iload_n 1, 1) := dk_27 (dk_at dksX6_owes_0 14 rfl rfl)
theorem dX6_owes_15 : decode cX6_owes 15 = .ok (.iload_n 2, 1) := dk_28 (dk_at dksX6_owes_0 15 rfl rfl)
theorem dX6_owes_16 : decode cX6_owes 16 = .ok (.invokestatic 312, 3) := dk_184 1 56 (dk_at dksX6_owes_0 16 rfl rfl)
theorem dX6_owes_19 : decode cX6_owes 19 = .ok (.iaload, 1) := dk_46 (dk_at dksX6_owes_0 19 rfl rfl)
theorem dX6_owes_20 : decode cX6_owes 20 = .ok (.invokevirtual 79, 3) := dk_182 0 79 (dk_at dksX6_owes_0 20 rfl rfl)
theorem dX6_owes_23 : decode cX6_owes 23 = .ok (.goto 8, 3) := dk_167 0 8 (dk_at dksX6_owes_1 0 rfl rfl)
theorem dX6_owes_26 : decode cX6_owes 26 = .ok (.aload_n 0, 1) := dk_42 (dk_at dksX6_owes_1 3 rfl rfl)
theorem dX6_owes_27 : decode cX6_owes 27 = .ok (.iconst 1, 1) := dk_4 (dk_at dksX6_owes_1 4 rfl rfl)
theorem dX6_owes_28 : decode cX6_owes 28 = .ok (.invokevirtual 75, 3) := dk_182 0 75 (dk_at dksX6_owes_1 5 rfl rfl)
theorem dX6_owes_31 : decode cX6_owes 31 = .ok (.ireturn, 1) := dk_172 (dk_at dksX6_owes_1 8 rfl rfl)
abbrev cX6_lend : ByteArray := prog_16_method_107_code
def yX6_lend : MethodName := ⟨RX6, "lend", "(III)I"⟩
def dkwX6_lend_2 : List UInt8 := [46, 182, 0, 79, 167, 0, 9, 42, 16, 7, 182, 0, 75, 172]
abbrev dktX6_lend_2 : List UInt8 := dkwX6_lend_2 ++ []
def dkwX6_lend_1 : List UInt8 := [182, 0, 75, 172, 42, 27, 28, 29, 182, 1, 101, 153, 0, 20, 42, 42, 180, 0, 7, 28, 27, 184, 1, 56]
abbrev dktX6_lend_1 : List UInt8 := dkwX6_lend_1 ++ dktX6_lend_2
def dkwX6_lend_0 : List UInt8 := [42, 27, 28, 182, 1, 75, 153, 0, 15, 29, 133, 10, 20, 1, 52, 184, 1, 46, 154, 0, 9, 42, 4]
abbrev dktX6_lend_0 : List UInt8 := dkwX6_lend_0 ++ dktX6_lend_1
theorem dksX6_lend_0 : cX6_lend.data.toList.drop 0 = dktX6_lend_0 := by decide +kernel
theorem dksX6_lend_1 : cX6_lend.data.toList.drop 23 = dktX6_lend_1 := dk_seg dksX6_lend_0 23 rfl rfl
theorem dksX6_lend_2 : cX6_lend.data.toList.drop 47 = dktX6_lend_2 := dk_seg dksX6_lend_1 24 rfl rfl
theorem dX6_lend_0 : decode cX6_lend 0 = .ok (.aload_n 0, 1) := dk_42 (dk_at dksX6_lend_0 0 rfl rfl)
theorem dX6_lend_1 : decode cX6_lend 1 = .ok (.iload_n 1, 1) := dk_27 (dk_at dksX6_lend_0 1 rfl rfl)
theorem dX6_lend_2 : decode cX6_lend 2 = .ok (.iload_n 2, 1) := dk_28 (dk_at dksX6_lend_0 2 rfl rfl)
theorem dX6_lend_3 : decode cX6_lend 3 = .ok (.invokevirtual 331, 3) := dk_182 1 75 (dk_at dksX6_lend_0 3 rfl rfl)
theorem dX6_lend_6 : decode cX6_lend 6 = .ok (.ifCond .eq 15, 3) := dk_153 0 15 (dk_at dksX6_lend_0 6 rfl rfl)
theorem dX6_lend_9 : decode cX6_lend 9 = .ok (.iload_n 3, 1) := dk_29 (dk_at dksX6_lend_0 9 rfl rfl)
theorem dX6_lend_10 : decode cX6_lend 10 = .ok (.i2l, 1) := dk_133 (dk_at dksX6_lend_0 10 rfl rfl)
theorem dX6_lend_11 : decode cX6_lend 11 = .ok (.lconst 1, 1) := dk_10 (dk_at dksX6_lend_0 11 rfl rfl)
theorem dX6_lend_12 : decode cX6_lend 12 = .ok (.ldc2_w 308, 3) := dk_20 1 52 (dk_at dksX6_lend_0 12 rfl rfl)
theorem dX6_lend_15 : decode cX6_lend 15 = .ok (.invokestatic 302, 3) := dk_184 1 46 (dk_at dksX6_lend_0 15 rfl rfl)
theorem dX6_lend_18 : decode cX6_lend 18 = .ok (.ifCond .ne 9, 3) := dk_154 0 9 (dk_at dksX6_lend_0 18 rfl rfl)
theorem dX6_lend_21 : decode cX6_lend 21 = .ok (.aload_n 0, 1) := dk_42 (dk_at dksX6_lend_0 21 rfl rfl)
theorem dX6_lend_22 : decode cX6_lend 22 = .ok (.iconst 1, 1) := dk_4 (dk_at dksX6_lend_0 22 rfl rfl)
theorem dX6_lend_23 : decode cX6_lend 23 = .ok (.invokevirtual 75, 3) := dk_182 0 75 (dk_at dksX6_lend_1 0 rfl rfl)
theorem dX6_lend_26 : decode cX6_lend 26 = .ok (.ireturn, 1) := dk_172 (dk_at dksX6_lend_1 3 rfl rfl)
theorem dX6_lend_27 : decode cX6_lend 27 = .ok (.aload_n 0, 1) := dk_42 (dk_at dksX6_lend_1 4 rfl rfl)
theorem dX6_lend_28 : decode cX6_lend 28 = .ok (.iload_n 1, 1) := dk_27 (dk_at dksX6_lend_1 5 rfl rfl)
theorem dX6_lend_29 : decode cX6_lend 29 = .ok (.iload_n 2, 1) := dk_28 (dk_at dksX6_lend_1 6 rfl rfl)
theorem dX6_lend_30 : decode cX6_lend 30 = .ok (.iload_n 3, 1) := dk_29 (dk_at dksX6_lend_1 7 rfl rfl)
theorem dX6_lend_31 : decode cX6_lend 31 = .ok (.invokevirtual 357, 3) := dk_182 1 101 (dk_at dksX6_lend_1 8 rfl rfl)
theorem dX6_lend_34 : decode cX6_lend 34 = .ok (.ifCond .eq 20, 3) := dk_153 0 20 (dk_at dksX6_lend_1 11 rfl rfl)
theorem dX6_lend_37 : decode cX6_lend 37 = .ok (.aload_n 0, 1) := dk_42 (dk_at dksX6_lend_1 14 rfl rfl)
theorem dX6_lend_38 : decode cX6_lend 38 = .ok (.aload_n 0, 1) := dk_42 (dk_at dksX6_lend_1 15 rfl rfl)
theorem dX6_lend_39 : decode cX6_lend 39 = .ok (.getfield 7, 3) := dk_180 0 7 (dk_at dksX6_lend_1 16 rfl rfl)
theorem dX6_lend_42 : decode cX6_lend 42 = .ok (.iload_n 2, 1) := dk_28 (dk_at dksX6_lend_1 19 rfl rfl)
theorem dX6_lend_43 : decode cX6_lend 43 = .ok (.iload_n 1, 1) := dk_27 (dk_at dksX6_lend_1 20 rfl rfl)
theorem dX6_lend_44 : decode cX6_lend 44 = .ok (.invokestatic 312, 3) := dk_184 1 56 (dk_at dksX6_lend_1 21 rfl rfl)
theorem dX6_lend_47 : decode cX6_lend 47 = .ok (.iaload, 1) := dk_46 (dk_at dksX6_lend_2 0 rfl rfl)
theorem dX6_lend_48 : decode cX6_lend 48 = .ok (.invokevirtual 79, 3) := dk_182 0 79 (dk_at dksX6_lend_2 1 rfl rfl)
theorem dX6_lend_51 : decode cX6_lend 51 = .ok (.goto 9, 3) := dk_167 0 9 (dk_at dksX6_lend_2 4 rfl rfl)
theorem dX6_lend_54 : decode cX6_lend 54 = .ok (.aload_n 0, 1) := dk_42 (dk_at dksX6_lend_2 7 rfl rfl)
theorem dX6_lend_55 : decode cX6_lend 55 = .ok (.bipush 7, 2) := dk_16 7 (dk_at dksX6_lend_2 8 rfl rfl)
theorem dX6_lend_57 : decode cX6_lend 57 = .ok (.invokevirtual 75, 3) := dk_182 0 75 (dk_at dksX6_lend_2 10 rfl rfl)
theorem dX6_lend_60 : decode cX6_lend 60 = .ok (.ireturn, 1) := dk_172 (dk_at dksX6_lend_2 13 rfl rfl)
abbrev cX6_lends : ByteArray := prog_16_method_106_code
def yX6_lends : MethodName := ⟨RX6, "lends", "(III)Z"⟩
def dkwX6_lends_1 : List UInt8 := [28, 27, 184, 1, 56, 92, 46, 29, 96, 79, 4, 172]
abbrev dktX6_lends_1 : List UInt8 := dkwX6_lends_1 ++ []
def dkwX6_lends_0 : List UInt8 := [42, 180, 0, 7, 28, 27, 184, 1, 56, 46, 29, 96, 19, 1, 59, 164, 0, 5, 3, 172, 42, 180, 0, 7]
abbrev dktX6_lends_0 : List UInt8 := dkwX6_lends_0 ++ dktX6_lends_1
theorem dksX6_lends_0 : cX6_lends.data.toList.drop 0 = dktX6_lends_0 := by decide +kernel
theorem dksX6_lends_1 : cX6_lends.data.toList.drop 24 = dktX6_lends_1 := dk_seg dksX6_lends_0 24 rfl rfl
theorem dX6_lends_0 : decode cX6_lends 0 = .ok (.aload_n 0, 1) := dk_42 (dk_at dksX6_lends_0 0 rfl rfl)
theorem dX6_lends_1 : decode cX6_lends 1 = .ok (.getfield 7, 3) := dk_180 0 7 (dk_at dksX6_lends_0 1 rfl rfl)
theorem dX6_lends_4 : decode cX6_lends 4 = .ok (.iload_n 2, 1) := dk_28 (dk_at dksX6_lends_0 4 rfl rfl)
theorem dX6_lends_5 : decode cX6_lends 5 = .ok (.iload_n 1, 1) := dk_27 (dk_at dksX6_lends_0 5 rfl rfl)
theorem dX6_lends_6 : decode cX6_lends 6 = .ok (.invokestatic 312, 3) := dk_184 1 56 (dk_at dksX6_lends_0 6 rfl rfl)
theorem dX6_lends_9 : decode cX6_lends 9 = .ok (.iaload, 1) := dk_46 (dk_at dksX6_lends_0 9 rfl rfl)
theorem dX6_lends_10 : decode cX6_lends 10 = .ok (.iload_n 3, 1) := dk_29 (dk_at dksX6_lends_0 10 rfl rfl)
theorem dX6_lends_11 : decode cX6_lends 11 = .ok (.iadd, 1) := dk_96 (dk_at dksX6_lends_0 11 rfl rfl)
theorem dX6_lends_12 : decode cX6_lends 12 = .ok (.ldc_w 315, 3) := dk_19 1 59 (dk_at dksX6_lends_0 12 rfl rfl)
theorem dX6_lends_15 : decode cX6_lends 15 = .ok (.if_icmp .le 5, 3) := dk_164 0 5 (dk_at dksX6_lends_0 15 rfl rfl)
theorem dX6_lends_18 : decode cX6_lends 18 = .ok (.iconst 0, 1) := dk_3 (dk_at dksX6_lends_0 18 rfl rfl)
theorem dX6_lends_19 : decode cX6_lends 19 = .ok (.ireturn, 1) := dk_172 (dk_at dksX6_lends_0 19 rfl rfl)
theorem dX6_lends_20 : decode cX6_lends 20 = .ok (.aload_n 0, 1) := dk_42 (dk_at dksX6_lends_0 20 rfl rfl)
theorem dX6_lends_21 : decode cX6_lends 21 = .ok (.getfield 7, 3) := dk_180 0 7 (dk_at dksX6_lends_0 21 rfl rfl)
theorem dX6_lends_24 : decode cX6_lends 24 = .ok (.iload_n 2, 1) := dk_28 (dk_at dksX6_lends_1 0 rfl rfl)
theorem dX6_lends_25 : decode cX6_lends 25 = .ok (.iload_n 1, 1) := dk_27 (dk_at dksX6_lends_1 1 rfl rfl)
theorem dX6_lends_26 : decode cX6_lends 26 = .ok (.invokestatic 312, 3) := dk_184 1 56 (dk_at dksX6_lends_1 2 rfl rfl)
theorem dX6_lends_29 : decode cX6_lends 29 = .ok (.dup2, 1) := dk_92 (dk_at dksX6_lends_1 5 rfl rfl)
theorem dX6_lends_30 : decode cX6_lends 30 = .ok (.iaload, 1) := dk_46 (dk_at dksX6_lends_1 6 rfl rfl)
theorem dX6_lends_31 : decode cX6_lends 31 = .ok (.iload_n 3, 1) := dk_29 (dk_at dksX6_lends_1 7 rfl rfl)
theorem dX6_lends_32 : decode cX6_lends 32 = .ok (.iadd, 1) := dk_96 (dk_at dksX6_lends_1 8 rfl rfl)
theorem dX6_lends_33 : decode cX6_lends 33 = .ok (.iastore, 1) := dk_79 (dk_at dksX6_lends_1 9 rfl rfl)
theorem dX6_lends_34 : decode cX6_lends 34 = .ok (.iconst 1, 1) := dk_4 (dk_at dksX6_lends_1 10 rfl rfl)
theorem dX6_lends_35 : decode cX6_lends 35 = .ok (.ireturn, 1) := dk_172 (dk_at dksX6_lends_1 11 rfl rfl)
abbrev cX6_balance : ByteArray := prog_16_method_108_code
def yX6_balance : MethodName := ⟨RX6, "balance", "(I)I"⟩
def dkwX6_balance_1 : List UInt8 := [182, 0, 75, 172]
abbrev dktX6_balance_1 : List UInt8 := dkwX6_balance_1 ++ []
def dkwX6_balance_0 : List UInt8 := [42, 27, 182, 0, 248, 153, 0, 15, 42, 42, 27, 182, 1, 63, 182, 0, 79, 167, 0, 8, 42, 4]
abbrev dktX6_balance_0 : List UInt8 := dkwX6_balance_0 ++ dktX6_balance_1
theorem dksX6_balance_0 : cX6_balance.data.toList.drop 0 = dktX6_balance_0 := by decide +kernel
theorem dksX6_balance_1 : cX6_balance.data.toList.drop 22 = dktX6_balance_1 := dk_seg dksX6_balance_0 22 rfl rfl
theorem dX6_balance_0 : decode cX6_balance 0 = .ok (.aload_n 0, 1) := dk_42 (dk_at dksX6_balance_0 0 rfl rfl)
theorem dX6_balance_1 : decode cX6_balance 1 = .ok (.iload_n 1, 1) := dk_27 (dk_at dksX6_balance_0 1 rfl rfl)
theorem dX6_balance_2 : decode cX6_balance 2 = .ok (.invokevirtual 248, 3) := dk_182 0 248 (dk_at dksX6_balance_0 2 rfl rfl)
theorem dX6_balance_5 : decode cX6_balance 5 = .ok (.ifCond .eq 15, 3) := dk_153 0 15 (dk_at dksX6_balance_0 5 rfl rfl)
theorem dX6_balance_8 : decode cX6_balance 8 = .ok (.aload_n 0, 1) := dk_42 (dk_at dksX6_balance_0 8 rfl rfl)
theorem dX6_balance_9 : decode cX6_balance 9 = .ok (.aload_n 0, 1) := dk_42 (dk_at dksX6_balance_0 9 rfl rfl)
theorem dX6_balance_10 : decode cX6_balance 10 = .ok (.iload_n 1, 1) := dk_27 (dk_at dksX6_balance_0 10 rfl rfl)
theorem dX6_balance_11 : decode cX6_balance 11 = .ok (.invokevirtual 319, 3) := dk_182 1 63 (dk_at dksX6_balance_0 11 rfl rfl)
theorem dX6_balance_14 : decode cX6_balance 14 = .ok (.invokevirtual 79, 3) := dk_182 0 79 (dk_at dksX6_balance_0 14 rfl rfl)
theorem dX6_balance_17 : decode cX6_balance 17 = .ok (.goto 8, 3) := dk_167 0 8 (dk_at dksX6_balance_0 17 rfl rfl)
theorem dX6_balance_20 : decode cX6_balance 20 = .ok (.aload_n 0, 1) := dk_42 (dk_at dksX6_balance_0 20 rfl rfl)
theorem dX6_balance_21 : decode cX6_balance 21 = .ok (.iconst 1, 1) := dk_4 (dk_at dksX6_balance_0 21 rfl rfl)
theorem dX6_balance_22 : decode cX6_balance 22 = .ok (.invokevirtual 75, 3) := dk_182 0 75 (dk_at dksX6_balance_1 0 rfl rfl)
theorem dX6_balance_25 : decode cX6_balance 25 = .ok (.ireturn, 1) := dk_172 (dk_at dksX6_balance_1 3 rfl rfl)
abbrev cX6_quits : ByteArray := prog_16_method_109_code
def yX6_quits : MethodName := ⟨RX6, "quits", "(II)I"⟩
def dkwX6_quits_3 : List UInt8 := [172]
abbrev dktX6_quits_3 : List UInt8 := dkwX6_quits_3 ++ []
def dkwX6_quits_2 : List UInt8 := [92, 46, 29, 100, 79, 42, 180, 0, 7, 28, 27, 184, 1, 56, 92, 46, 29, 100, 79, 42, 29, 182, 0, 79]
abbrev dktX6_quits_2 : List UInt8 := dkwX6_quits_2 ++ dktX6_quits_3
def dkwX6_quits_1 : List UInt8 := [46, 42, 180, 0, 7, 28, 27, 184, 1, 56, 46, 184, 0, 130, 62, 42, 180, 0, 7, 27, 28, 184, 1, 56]
abbrev dktX6_quits_1 : List UInt8 := dkwX6_quits_1 ++ dktX6_quits_2
def dkwX6_quits_0 : List UInt8 := [42, 27, 28, 182, 1, 75, 154, 0, 9, 42, 4, 182, 0, 75, 172, 42, 180, 0, 7, 27, 28, 184, 1, 56]
abbrev dktX6_quits_0 : List UInt8 := dkwX6_quits_0 ++ dktX6_quits_1
theorem dksX6_quits_0 : cX6_quits.data.toList.drop 0 = dktX6_quits_0 := by decide +kernel
theorem dksX6_quits_1 : cX6_quits.data.toList.drop 24 = dktX6_quits_1 := dk_seg dksX6_quits_0 24 rfl rfl
theorem dksX6_quits_2 : cX6_quits.data.toList.drop 48 = dktX6_quits_2 := dk_seg dksX6_quits_1 24 rfl rfl
theorem dksX6_quits_3 : cX6_quits.data.toList.drop 72 = dktX6_quits_3 := dk_seg dksX6_quits_2 24 rfl rfl
theorem dX6_quits_0 : decode cX6_quits 0 = .ok (.aload_n 0, 1) := dk_42 (dk_at dksX6_quits_0 0 rfl rfl)
theorem dX6_quits_1 : decode cX6_quits 1 = .ok (.iload_n 1, 1) := dk_27 (dk_at dksX6_quits_0 1 rfl rfl)
theorem dX6_quits_2 : decode cX6_quits 2 = .ok (.iload_n 2, 1) := dk_28 (dk_at dksX6_quits_0 2 rfl rfl)
theorem dX6_quits_3 : decode cX6_quits 3 = .ok (.invokevirtual 331, 3) := dk_182 1 75 (dk_at dksX6_quits_0 3 rfl rfl)
theorem dX6_quits_6 : decode cX6_quits 6 = .ok (.ifCond .ne 9, 3) := dk_154 0 9 (dk_at dksX6_quits_0 6 rfl rfl)
theorem dX6_quits_9 : decode cX6_quits 9 = .ok (.aload_n 0, 1) := dk_42 (dk_at dksX6_quits_0 9 rfl rfl)
theorem dX6_quits_10 : decode cX6_quits 10 = .ok (.iconst 1, 1) := dk_4 (dk_at dksX6_quits_0 10 rfl rfl)
theorem dX6_quits_11 : decode cX6_quits 11 = .ok (.invokevirtual 75, 3) := dk_182 0 75 (dk_at dksX6_quits_0 11 rfl rfl)
theorem dX6_quits_14 : decode cX6_quits 14 = .ok (.ireturn, 1) := dk_172 (dk_at dksX6_quits_0 14 rfl rfl)
theorem dX6_quits_15 : decode cX6_quits 15 = .ok (.aload_n 0, 1) := dk_42 (dk_at dksX6_quits_0 15 rfl rfl)
theorem dX6_quits_16 : decode cX6_quits 16 = .ok (.getfield 7, 3) := dk_180 0 7 (dk_at dksX6_quits_0 16 rfl rfl)
theorem dX6_quits_19 : decode cX6_quits 19 = .ok (.iload_n 1, 1) := dk_27 (dk_at dksX6_quits_0 19 rfl rfl)
theorem dX6_quits_20 : decode cX6_quits 20 = .ok (.iload_n 2, 1) := dk_28 (dk_at dksX6_quits_0 20 rfl rfl)
theorem dX6_quits_21 : decode cX6_quits 21 = .ok (.invokestatic 312, 3) := dk_184 1 56 (dk_at dksX6_quits_0 21 rfl rfl)
theorem dX6_quits_24 : decode cX6_quits 24 = .ok (.iaload, 1) := dk_46 (dk_at dksX6_quits_1 0 rfl rfl)
theorem dX6_quits_25 : decode cX6_quits 25 = .ok (.aload_n 0, 1) := dk_42 (dk_at dksX6_quits_1 1 rfl rfl)
theorem dX6_quits_26 : decode cX6_quits 26 = .ok (.getfield 7, 3) := dk_180 0 7 (dk_at dksX6_quits_1 2 rfl rfl)
theorem dX6_quits_29 : decode cX6_quits 29 = .ok (.iload_n 2, 1) := dk_28 (dk_at dksX6_quits_1 5 rfl rfl)
theorem dX6_quits_30 : decode cX6_quits 30 = .ok (.iload_n 1, 1) := dk_27 (dk_at dksX6_quits_1 6 rfl rfl)
theorem dX6_quits_31 : decode cX6_quits 31 = .ok (.invokestatic 312, 3) := dk_184 1 56 (dk_at dksX6_quits_1 7 rfl rfl)
theorem dX6_quits_34 : decode cX6_quits 34 = .ok (.iaload, 1) := dk_46 (dk_at dksX6_quits_1 10 rfl rfl)
theorem dX6_quits_35 : decode cX6_quits 35 = .ok (.invokestatic 130, 3) := dk_184 0 130 (dk_at dksX6_quits_1 11 rfl rfl)
theorem dX6_quits_38 : decode cX6_quits 38 = .ok (.istore_n 3, 1) := dk_62 (dk_at dksX6_quits_1 14 rfl rfl)
theorem dX6_quits_39 : decode cX6_quits 39 = .ok (.aload_n 0, 1) := dk_42 (dk_at dksX6_quits_1 15 rfl rfl)
theorem dX6_quits_40 : decode cX6_quits 40 = .ok (.getfield 7, 3) := dk_180 0 7 (dk_at dksX6_quits_1 16 rfl rfl)
theorem dX6_quits_43 : decode cX6_quits 43 = .ok (.iload_n 1, 1) := dk_27 (dk_at dksX6_quits_1 19 rfl rfl)
theorem dX6_quits_44 : decode cX6_quits 44 = .ok (.iload_n 2, 1) := dk_28 (dk_at dksX6_quits_1 20 rfl rfl)
theorem dX6_quits_45 : decode cX6_quits 45 = .ok (.invokestatic 312, 3) := dk_184 1 56 (dk_at dksX6_quits_1 21 rfl rfl)
theorem dX6_quits_48 : decode cX6_quits 48 = .ok (.dup2, 1) := dk_92 (dk_at dksX6_quits_2 0 rfl rfl)
theorem dX6_quits_49 : decode cX6_quits 49 = .ok (.iaload, 1) := dk_46 (dk_at dksX6_quits_2 1 rfl rfl)
theorem dX6_quits_50 : decode cX6_quits 50 = .ok (.iload_n 3, 1) := dk_29 (dk_at dksX6_quits_2 2 rfl rfl)
theorem dX6_quits_51 : decode cX6_quits 51 = .ok (.isub, 1) := dk_100 (dk_at dksX6_quits_2 3 rfl rfl)
theorem dX6_quits_52 : decode cX6_quits 52 = .ok (.iastore, 1) := dk_79 (dk_at dksX6_quits_2 4 rfl rfl)
theorem dX6_quits_53 : decode cX6_quits 53 = .ok (.aload_n 0, 1) := dk_42 (dk_at dksX6_quits_2 5 rfl rfl)
theorem dX6_quits_54 : decode cX6_quits 54 = .ok (.getfield 7, 3) := dk_180 0 7 (dk_at dksX6_quits_2 6 rfl rfl)
theorem dX6_quits_57 : decode cX6_quits 57 = .ok (.iload_n 2, 1) := dk_28 (dk_at dksX6_quits_2 9 rfl rfl)
theorem dX6_quits_58 : decode cX6_quits 58 = .ok (.iload_n 1, 1) := dk_27 (dk_at dksX6_quits_2 10 rfl rfl)
theorem dX6_quits_59 : decode cX6_quits 59 = .ok (.invokestatic 312, 3) := dk_184 1 56 (dk_at dksX6_quits_2 11 rfl rfl)
theorem dX6_quits_62 : decode cX6_quits 62 = .ok (.dup2, 1) := dk_92 (dk_at dksX6_quits_2 14 rfl rfl)
theorem dX6_quits_63 : decode cX6_quits 63 = .ok (.iaload, 1) := dk_46 (dk_at dksX6_quits_2 15 rfl rfl)
theorem dX6_quits_64 : decode cX6_quits 64 = .ok (.iload_n 3, 1) := dk_29 (dk_at dksX6_quits_2 16 rfl rfl)
theorem dX6_quits_65 : decode cX6_quits 65 = .ok (.isub, 1) := dk_100 (dk_at dksX6_quits_2 17 rfl rfl)
theorem dX6_quits_66 : decode cX6_quits 66 = .ok (.iastore, 1) := dk_79 (dk_at dksX6_quits_2 18 rfl rfl)
theorem dX6_quits_67 : decode cX6_quits 67 = .ok (.aload_n 0, 1) := dk_42 (dk_at dksX6_quits_2 19 rfl rfl)
theorem dX6_quits_68 : decode cX6_quits 68 = .ok (.iload_n 3, 1) := dk_29 (dk_at dksX6_quits_2 20 rfl rfl)
theorem dX6_quits_69 : decode cX6_quits 69 = .ok (.invokevirtual 79, 3) := dk_182 0 79 (dk_at dksX6_quits_2 21 rfl rfl)
theorem dX6_quits_72 : decode cX6_quits 72 = .ok (.ireturn, 1) := dk_172 (dk_at dksX6_quits_3 0 rfl rfl)
abbrev cX6_settle : ByteArray := prog_16_method_110_code
def yX6_settle : MethodName := ⟨RX6, "settle", "()I"⟩
def dkwX6_settle_7 : List UInt8 := [180, 0, 47, 27, 46, 100, 182, 0, 79, 172]
abbrev dktX6_settle_7 : List UInt8 := dkwX6_settle_7 ++ []
def dkwX6_settle_6 : List UInt8 := [46, 29, 154, 0, 7, 4, 167, 0, 4, 3, 96, 79, 132, 2, 1, 167, 255, 139, 42, 27, 184, 0, 254, 42]
abbrev dktX6_settle_6 : List UInt8 := dkwX6_settle_6 ++ dktX6_settle_7
def dkwX6_settle_5 : List UInt8 := [4, 21, 4, 120, 2, 130, 126, 46, 184, 1, 104, 79, 132, 4, 1, 167, 255, 195, 42, 180, 0, 47, 28, 92]
abbrev dktX6_settle_5 : List UInt8 := dkwX6_settle_5 ++ dktX6_settle_6
def dkwX6_settle_4 : List UInt8 := [42, 21, 4, 182, 1, 63, 96, 62, 42, 180, 0, 47, 28, 42, 180, 0, 47, 28, 46, 42, 180, 0, 47, 28]
abbrev dktX6_settle_4 : List UInt8 := dkwX6_settle_4 ++ dktX6_settle_5
def dkwX6_settle_3 : List UInt8 := [54, 4, 21, 4, 42, 180, 0, 7, 3, 46, 162, 0, 56, 42, 28, 21, 4, 182, 1, 14, 153, 0, 40, 29]
abbrev dktX6_settle_3 : List UInt8 := dkwX6_settle_3 ++ dktX6_settle_4
def dkwX6_settle_2 : List UInt8 := [180, 0, 47, 28, 3, 79, 28, 27, 2, 130, 126, 154, 0, 97, 28, 154, 0, 6, 167, 0, 90, 3, 62, 3]
abbrev dktX6_settle_2 : List UInt8 := dkwX6_settle_2 ++ dktX6_settle_3
def dkwX6_settle_1 : List UInt8 := [28, 120, 167, 0, 4, 3, 128, 60, 132, 2, 1, 167, 255, 225, 3, 61, 28, 27, 163, 0, 118, 42]
abbrev dktX6_settle_1 : List UInt8 := dkwX6_settle_1 ++ dktX6_settle_2
def dkwX6_settle_0 : List UInt8 := [3, 60, 3, 61, 28, 42, 180, 0, 7, 3, 46, 162, 0, 27, 27, 42, 28, 182, 1, 63, 153, 0, 9, 4]
abbrev dktX6_settle_0 : List UInt8 := dkwX6_settle_0 ++ dktX6_settle_1
theorem dksX6_settle_0 : cX6_settle.data.toList.drop 0 = dktX6_settle_0 := by decide +kernel
theorem dksX6_settle_1 : cX6_settle.data.toList.drop 24 = dktX6_settle_1 := dk_seg dksX6_settle_0 24 rfl rfl
theorem dksX6_settle_2 : cX6_settle.data.toList.drop 46 = dktX6_settle_2 := dk_seg dksX6_settle_1 22 rfl rfl
theorem dksX6_settle_3 : cX6_settle.data.toList.drop 70 = dktX6_settle_3 := dk_seg dksX6_settle_2 24 rfl rfl
theorem dksX6_settle_4 : cX6_settle.data.toList.drop 94 = dktX6_settle_4 := dk_seg dksX6_settle_3 24 rfl rfl
theorem dksX6_settle_5 : cX6_settle.data.toList.drop 118 = dktX6_settle_5 := dk_seg dksX6_settle_4 24 rfl rfl
theorem dksX6_settle_6 : cX6_settle.data.toList.drop 142 = dktX6_settle_6 := dk_seg dksX6_settle_5 24 rfl rfl
theorem dksX6_settle_7 : cX6_settle.data.toList.drop 166 = dktX6_settle_7 := dk_seg dksX6_settle_6 24 rfl rfl
theorem dX6_settle_0 : decode cX6_settle 0 = .ok (.iconst 0, 1) := dk_3 (dk_at dksX6_settle_0 0 rfl rfl)
theorem dX6_settle_1 : decode cX6_settle 1 = .ok (.istore_n 1, 1) := dk_60 (dk_at dksX6_settle_0 1 rfl rfl)
theorem dX6_settle_2 : decode cX6_settle 2 = .ok (.iconst 0, 1) := dk_3 (dk_at dksX6_settle_0 2 rfl rfl)
theorem dX6_settle_3 : decode cX6_settle 3 = .ok (.istore_n 2, 1) := dk_61 (dk_at dksX6_settle_0 3 rfl rfl)
theorem dX6_settle_4 : decode cX6_settle 4 = .ok (.iload_n 2, 1) := dk_28 (dk_at dksX6_settle_0 4 rfl rfl)
theorem dX6_settle_5 : decode cX6_settle 5 = .ok (.aload_n 0, 1) := dk_42 (dk_at dksX6_settle_0 5 rfl rfl)
theorem dX6_settle_6 : decode cX6_settle 6 = .ok (.getfield 7, 3) := dk_180 0 7 (dk_at dksX6_settle_0 6 rfl rfl)
theorem dX6_settle_9 : decode cX6_settle 9 = .ok (.iconst 0, 1) := dk_3 (dk_at dksX6_settle_0 9 rfl rfl)
theorem dX6_settle_10 : decode cX6_settle 10 = .ok (.iaload, 1) := dk_46 (dk_at dksX6_settle_0 10 rfl rfl)
theorem dX6_settle_11 : decode cX6_settle 11 = .ok (.if_icmp .ge 27, 3) := dk_162 0 27 (dk_at dksX6_settle_0 11 rfl rfl)
theorem dX6_settle_14 : decode cX6_settle 14 = .ok (.iload_n 1, 1) := dk_27 (dk_at dksX6_settle_0 14 rfl rfl)
theorem dX6_settle_15 : decode cX6_settle 15 = .ok (.aload_n 0, 1) := dk_42 (dk_at dksX6_settle_0 15 rfl rfl)
theorem dX6_settle_16 : decode cX6_settle 16 = .ok (.iload_n 2, 1) := dk_28 (dk_at dksX6_settle_0 16 rfl rfl)
theorem dX6_settle_17 : decode cX6_settle 17 = .ok (.invokevirtual 319, 3) := dk_182 1 63 (dk_at dksX6_settle_0 17 rfl rfl)
theorem dX6_settle_20 : decode cX6_settle 20 = .ok (.ifCond .eq 9, 3) := dk_153 0 9 (dk_at dksX6_settle_0 20 rfl rfl)
theorem dX6_settle_23 : decode cX6_settle 23 = .ok (.iconst 1, 1) := dk_4 (dk_at dksX6_settle_0 23 rfl rfl)
theorem dX6_settle_24 : decode cX6_settle 24 = .ok (.iload_n 2, 1) := dk_28 (dk_at dksX6_settle_1 0 rfl rfl)
theorem dX6_settle_25 : decode cX6_settle 25 = .ok (.ishl, 1) := dk_120 (dk_at dksX6_settle_1 1 rfl rfl)
theorem dX6_settle_26 : decode cX6_settle 26 = .ok (.goto 4, 3) := dk_167 0 4 (dk_at dksX6_settle_1 2 rfl rfl)
theorem dX6_settle_29 : decode cX6_settle 29 = .ok (.iconst 0, 1) := dk_3 (dk_at dksX6_settle_1 5 rfl rfl)
theorem dX6_settle_30 : decode cX6_settle 30 = .ok (.ior, 1) := dk_128 (dk_at dksX6_settle_1 6 rfl rfl)
theorem dX6_settle_31 : decode cX6_settle 31 = .ok (.istore_n 1, 1) := dk_60 (dk_at dksX6_settle_1 7 rfl rfl)
theorem dX6_settle_32 : decode cX6_settle 32 = .ok (.iinc 2 1, 3) := dk_132 2 1 (dk_at dksX6_settle_1 8 rfl rfl)
theorem dX6_settle_35 : decode cX6_settle 35 = .ok (.goto (-31), 3) := dk_167 255 225 (dk_at dksX6_settle_1 11 rfl rfl)
theorem dX6_settle_38 : decode cX6_settle 38 = .ok (.iconst 0, 1) := dk_3 (dk_at dksX6_settle_1 14 rfl rfl)
theorem dX6_settle_39 : decode cX6_settle 39 = .ok (.istore_n 2, 1) := dk_61 (dk_at dksX6_settle_1 15 rfl rfl)
theorem dX6_settle_40 : decode cX6_settle 40 = .ok (.iload_n 2, 1) := dk_28 (dk_at dksX6_settle_1 16 rfl rfl)
theorem dX6_settle_41 : decode cX6_settle 41 = .ok (.iload_n 1, 1) := dk_27 (dk_at dksX6_settle_1 17 rfl rfl)
theorem dX6_settle_42 : decode cX6_settle 42 = .ok (.if_icmp .gt 118, 3) := dk_163 0 118 (dk_at dksX6_settle_1 18 rfl rfl)
theorem dX6_settle_45 : decode cX6_settle 45 = .ok (.aload_n 0, 1) := dk_42 (dk_at dksX6_settle_1 21 rfl rfl)
theorem dX6_settle_46 : decode cX6_settle 46 = .ok (.getfield 47, 3) := dk_180 0 47 (dk_at dksX6_settle_2 0 rfl rfl)
theorem dX6_settle_49 : decode cX6_settle 49 = .ok (.iload_n 2, 1) := dk_28 (dk_at dksX6_settle_2 3 rfl rfl)
theorem dX6_settle_50 : decode cX6_settle 50 = .ok (.iconst 0, 1) := dk_3 (dk_at dksX6_settle_2 4 rfl rfl)
theorem dX6_settle_51 : decode cX6_settle 51 = .ok (.iastore, 1) := dk_79 (dk_at dksX6_settle_2 5 rfl rfl)
theorem dX6_settle_52 : decode cX6_settle 52 = .ok (.iload_n 2, 1) := dk_28 (dk_at dksX6_settle_2 6 rfl rfl)
theorem dX6_settle_53 : decode cX6_settle 53 = .ok (.iload_n 1, 1) := dk_27 (dk_at dksX6_settle_2 7 rfl rfl)
theorem dX6_settle_54 : decode cX6_settle 54 = .ok (.iconst (-1), 1) := dk_2 (dk_at dksX6_settle_2 8 rfl rfl)
theorem dX6_settle_55 : decode cX6_settle 55 = .ok (.ixor, 1) := dk_130 (dk_at dksX6_settle_2 9 rfl rfl)
theorem dX6_settle_56 : decode cX6_settle 56 = .ok (.iand, 1) := dk_126 (dk_at dksX6_settle_2 10 rfl rfl)
theorem dX6_settle_57 : decode cX6_settle 57 = .ok (.ifCond .ne 97, 3) := dk_154 0 97 (dk_at dksX6_settle_2 11 rfl rfl)
theorem dX6_settle_60 : decode cX6_settle 60 = .ok (.iload_n 2, 1) := dk_28 (dk_at dksX6_settle_2 14 rfl rfl)
theorem dX6_settle_61 : decode cX6_settle 61 = .ok (.ifCond .ne 6, 3) := dk_154 0 6 (dk_at dksX6_settle_2 15 rfl rfl)
theorem dX6_settle_64 : decode cX6_settle 64 = .ok (.goto 90, 3) := dk_167 0 90 (dk_at dksX6_settle_2 18 rfl rfl)
theorem dX6_settle_67 : decode cX6_settle 67 = .ok (.iconst 0, 1) := dk_3 (dk_at dksX6_settle_2 21 rfl rfl)
theorem dX6_settle_68 : decode cX6_settle 68 = .ok (.istore_n 3, 1) := dk_62 (dk_at dksX6_settle_2 22 rfl rfl)
theorem dX6_settle_69 : decode cX6_settle 69 = .ok (.iconst 0, 1) := dk_3 (dk_at dksX6_settle_2 23 rfl rfl)
theorem dX6_settle_70 : decode cX6_settle 70 = .ok (.istore 4, 2) := dk_54 4 (dk_at dksX6_settle_3 0 rfl rfl)
theorem dX6_settle_72 : decode cX6_settle 72 = .ok (.iload 4, 2) := dk_21 4 (dk_at dksX6_settle_3 2 rfl rfl)
theorem dX6_settle_74 : decode cX6_settle 74 = .ok (.aload_n 0, 1) := dk_42 (dk_at dksX6_settle_3 4 rfl rfl)
theorem dX6_settle_75 : decode cX6_settle 75 = .ok (.getfield 7, 3) := dk_180 0 7 (dk_at dksX6_settle_3 5 rfl rfl)
theorem dX6_settle_78 : decode cX6_settle 78 = .ok (.iconst 0, 1) := dk_3 (dk_at dksX6_settle_3 8 rfl rfl)
theorem dX6_settle_79 : decode cX6_settle 79 = .ok (.iaload, 1) := dk_46 (dk_at dksX6_settle_3 9 rfl rfl)
theorem dX6_settle_80 : decode cX6_settle 80 = .ok (.if_icmp .ge 56, 3) := dk_162 0 56 (dk_at dksX6_settle_3 10 rfl rfl)
theorem dX6_settle_83 : decode cX6_settle 83 = .ok (.aload_n 0, 1) := dk_42 (dk_at dksX6_settle_3 13 rfl rfl)
theorem dX6_settle_84 : decode cX6_settle 84 = .ok (.iload_n 2, 1) := dk_28 (dk_at dksX6_settle_3 14 rfl rfl)
theorem dX6_settle_85 : decode cX6_settle 85 = .ok (.iload 4, 2) := dk_21 4 (dk_at dksX6_settle_3 15 rfl rfl)
theorem dX6_settle_87 : decode cX6_settle 87 = .ok (.invokevirtual 270, 3) := dk_182 1 14 (dk_at dksX6_settle_3 17 rfl rfl)
theorem dX6_settle_90 : decode cX6_settle 90 = .ok (.ifCond .eq 40, 3) := dk_153 0 40 (dk_at dksX6_settle_3 20 rfl rfl)
theorem dX6_settle_93 : decode cX6_settle 93 = .ok (.iload_n 3, 1) := dk_29 (dk_at dksX6_settle_3 23 rfl rfl)
theorem dX6_settle_94 : decode cX6_settle 94 = .ok (.aload_n 0, 1) := dk_42 (dk_at dksX6_settle_4 0 rfl rfl)
theorem dX6_settle_95 : decode cX6_settle 95 = .ok (.iload 4, 2) := dk_21 4 (dk_at dksX6_settle_4 1 rfl rfl)
theorem dX6_settle_97 : decode cX6_settle 97 = .ok (.invokevirtual 319, 3) := dk_182 1 63 (dk_at dksX6_settle_4 3 rfl rfl)
theorem dX6_settle_100 : decode cX6_settle 100 = .ok (.iadd, 1) := dk_96 (dk_at dksX6_settle_4 6 rfl rfl)
theorem dX6_settle_101 : decode cX6_settle 101 = .ok (.istore_n 3, 1) := dk_62 (dk_at dksX6_settle_4 7 rfl rfl)
theorem dX6_settle_102 : decode cX6_settle 102 = .ok (.aload_n 0, 1) := dk_42 (dk_at dksX6_settle_4 8 rfl rfl)
theorem dX6_settle_103 : decode cX6_settle 103 = .ok (.getfield 47, 3) := dk_180 0 47 (dk_at dksX6_settle_4 9 rfl rfl)
theorem dX6_settle_106 : decode cX6_settle 106 = .ok (.iload_n 2, 1) := dk_28 (dk_at dksX6_settle_4 12 rfl rfl)
theorem dX6_settle_107 : decode cX6_settle 107 = .ok (.aload_n 0, 1) := dk_42 (dk_at dksX6_settle_4 13 rfl rfl)
theorem dX6_settle_108 : decode cX6_settle 108 = .ok (.getfield 47, 3) := dk_180 0 47 (dk_at dksX6_settle_4 14 rfl rfl)
theorem dX6_settle_111 : decode cX6_settle 111 = .ok (.iload_n 2, 1) := dk_28 (dk_at dksX6_settle_4 17 rfl rfl)
theorem dX6_settle_112 : decode cX6_settle 112 = .ok (.iaload, 1) := dk_46 (dk_at dksX6_settle_4 18 rfl rfl)
theorem dX6_settle_113 : decode cX6_settle 113 = .ok (.aload_n 0, 1) := dk_42 (dk_at dksX6_settle_4 19 rfl rfl)
theorem dX6_settle_114 : decode cX6_settle 114 = .ok (.getfield 47, 3) := dk_180 0 47 (dk_at dksX6_settle_4 20 rfl rfl)
theorem dX6_settle_117 : decode cX6_settle 117 = .ok (.iload_n 2, 1) := dk_28 (dk_at dksX6_settle_4 23 rfl rfl)
theorem dX6_settle_118 : decode cX6_settle 118 = .ok (.iconst 1, 1) := dk_4 (dk_at dksX6_settle_5 0 rfl rfl)
theorem dX6_settle_119 : decode cX6_settle 119 = .ok (.iload 4, 2) := dk_21 4 (dk_at dksX6_settle_5 1 rfl rfl)
theorem dX6_settle_121 : decode cX6_settle 121 = .ok (.ishl, 1) := dk_120 (dk_at dksX6_settle_5 3 rfl rfl)
theorem dX6_settle_122 : decode cX6_settle 122 = .ok (.iconst (-1), 1) := dk_2 (dk_at dksX6_settle_5 4 rfl rfl)
theorem dX6_settle_123 : decode cX6_settle 123 = .ok (.ixor, 1) := dk_130 (dk_at dksX6_settle_5 5 rfl rfl)
theorem dX6_settle_124 : decode cX6_settle 124 = .ok (.iand, 1) := dk_126 (dk_at dksX6_settle_5 6 rfl rfl)
theorem dX6_settle_125 : decode cX6_settle 125 = .ok (.iaload, 1) := dk_46 (dk_at dksX6_settle_5 7 rfl rfl)
theorem dX6_settle_126 : decode cX6_settle 126 = .ok (.invokestatic 360, 3) := dk_184 1 104 (dk_at dksX6_settle_5 8 rfl rfl)
theorem dX6_settle_129 : decode cX6_settle 129 = .ok (.iastore, 1) := dk_79 (dk_at dksX6_settle_5 11 rfl rfl)
theorem dX6_settle_130 : decode cX6_settle 130 = .ok (.iinc 4 1, 3) := dk_132 4 1 (dk_at dksX6_settle_5 12 rfl rfl)
theorem dX6_settle_133 : decode cX6_settle 133 = .ok (.goto (-61), 3) := dk_167 255 195 (dk_at dksX6_settle_5 15 rfl rfl)
theorem dX6_settle_136 : decode cX6_settle 136 = .ok (.aload_n 0, 1) := dk_42 (dk_at dksX6_settle_5 18 rfl rfl)
theorem dX6_settle_137 : decode cX6_settle 137 = .ok (.getfield 47, 3) := dk_180 0 47 (dk_at dksX6_settle_5 19 rfl rfl)
theorem dX6_settle_140 : decode cX6_settle 140 = .ok (.iload_n 2, 1) := dk_28 (dk_at dksX6_settle_5 22 rfl rfl)
theorem dX6_settle_141 : decode cX6_settle 141 = .ok (.dup2, 1) := dk_92 (dk_at dksX6_settle_5 23 rfl rfl)
theorem dX6_settle_142 : decode cX6_settle 142 = .ok (.iaload, 1) := dk_46 (dk_at dksX6_settle_6 0 rfl rfl)
theorem dX6_settle_143 : decode cX6_settle 143 = .ok (.iload_n 3, 1) := dk_29 (dk_at dksX6_settle_6 1 rfl rfl)
theorem dX6_settle_144 : decode cX6_settle 144 = .ok (.ifCond .ne 7, 3) := dk_154 0 7 (dk_at dksX6_settle_6 2 rfl rfl)
theorem dX6_settle_147 : decode cX6_settle 147 = .ok (.iconst 1, 1) := dk_4 (dk_at dksX6_settle_6 5 rfl rfl)
theorem dX6_settle_148 : decode cX6_settle 148 = .ok (.goto 4, 3) := dk_167 0 4 (dk_at dksX6_settle_6 6 rfl rfl)
theorem dX6_settle_151 : decode cX6_settle 151 = .ok (.iconst 0, 1) := dk_3 (dk_at dksX6_settle_6 9 rfl rfl)
theorem dX6_settle_152 : decode cX6_settle 152 = .ok (.iadd, 1) := dk_96 (dk_at dksX6_settle_6 10 rfl rfl)
theorem dX6_settle_153 : decode cX6_settle 153 = .ok (.iastore, 1) := dk_79 (dk_at dksX6_settle_6 11 rfl rfl)
theorem dX6_settle_154 : decode cX6_settle 154 = .ok (.iinc 2 1, 3) := dk_132 2 1 (dk_at dksX6_settle_6 12 rfl rfl)
theorem dX6_settle_157 : decode cX6_settle 157 = .ok (.goto (-117), 3) := dk_167 255 139 (dk_at dksX6_settle_6 15 rfl rfl)
theorem dX6_settle_160 : decode cX6_settle 160 = .ok (.aload_n 0, 1) := dk_42 (dk_at dksX6_settle_6 18 rfl rfl)
theorem dX6_settle_161 : decode cX6_settle 161 = .ok (.iload_n 1, 1) := dk_27 (dk_at dksX6_settle_6 19 rfl rfl)
theorem dX6_settle_162 : decode cX6_settle 162 = .ok (.invokestatic 254, 3) := dk_184 0 254 (dk_at dksX6_settle_6 20 rfl rfl)
theorem dX6_settle_165 : decode cX6_settle 165 = .ok (.aload_n 0, 1) := dk_42 (dk_at dksX6_settle_6 23 rfl rfl)
theorem dX6_settle_166 : decode cX6_settle 166 = .ok (.getfield 47, 3) := dk_180 0 47 (dk_at dksX6_settle_7 0 rfl rfl)
theorem dX6_settle_169 : decode cX6_settle 169 = .ok (.iload_n 1, 1) := dk_27 (dk_at dksX6_settle_7 3 rfl rfl)
theorem dX6_settle_170 : decode cX6_settle 170 = .ok (.iaload, 1) := dk_46 (dk_at dksX6_settle_7 4 rfl rfl)
theorem dX6_settle_171 : decode cX6_settle 171 = .ok (.isub, 1) := dk_100 (dk_at dksX6_settle_7 5 rfl rfl)
theorem dX6_settle_172 : decode cX6_settle 172 = .ok (.invokevirtual 79, 3) := dk_182 0 79 (dk_at dksX6_settle_7 6 rfl rfl)
theorem dX6_settle_175 : decode cX6_settle 175 = .ok (.ireturn, 1) := dk_172 (dk_at dksX6_settle_7 9 rfl rfl)
abbrev cX6_ties : ByteArray := prog_16_method_112_code
def yX6_ties : MethodName := ⟨RX6, "ties", "()I"⟩
def dkwX6_ties_0 : List UInt8 := [42, 42, 182, 1, 107, 182, 0, 79, 172]
abbrev dktX6_ties_0 : List UInt8 := dkwX6_ties_0 ++ []
theorem dksX6_ties_0 : cX6_ties.data.toList.drop 0 = dktX6_ties_0 := by decide +kernel
theorem dX6_ties_0 : decode cX6_ties 0 = .ok (.aload_n 0, 1) := dk_42 (dk_at dksX6_ties_0 0 rfl rfl)
theorem dX6_ties_1 : decode cX6_ties 1 = .ok (.aload_n 0, 1) := dk_42 (dk_at dksX6_ties_0 1 rfl rfl)
theorem dX6_ties_2 : decode cX6_ties 2 = .ok (.invokevirtual 363, 3) := dk_182 1 107 (dk_at dksX6_ties_0 2 rfl rfl)
theorem dX6_ties_5 : decode cX6_ties 5 = .ok (.invokevirtual 79, 3) := dk_182 0 79 (dk_at dksX6_ties_0 5 rfl rfl)
theorem dX6_ties_8 : decode cX6_ties 8 = .ok (.ireturn, 1) := dk_172 (dk_at dksX6_ties_0 8 rfl rfl)
abbrev cX6_tiesNow : ByteArray := prog_16_method_111_code
def yX6_tiesNow : MethodName := ⟨RX6, "tiesNow", "()I"⟩
def dkwX6_tiesNow_2 : List UInt8 := [158, 0, 7, 4, 167, 0, 4, 3, 96, 60, 132, 3, 1, 167, 255, 214, 132, 2, 1, 167, 255, 196, 27, 172]
abbrev dktX6_tiesNow_2 : List UInt8 := dkwX6_tiesNow_2 ++ []
def dkwX6_tiesNow_1 : List UInt8 := [180, 0, 7, 28, 29, 184, 1, 56, 46, 157, 0, 16, 42, 180, 0, 7, 29, 28, 184, 1, 56, 46]
abbrev dktX6_tiesNow_1 : List UInt8 := dkwX6_tiesNow_1 ++ dktX6_tiesNow_2
def dkwX6_tiesNow_0 : List UInt8 := [3, 60, 3, 61, 28, 42, 180, 0, 7, 3, 46, 162, 0, 56, 3, 62, 29, 28, 162, 0, 43, 27, 42]
abbrev dktX6_tiesNow_0 : List UInt8 := dkwX6_tiesNow_0 ++ dktX6_tiesNow_1
theorem dksX6_tiesNow_0 : cX6_tiesNow.data.toList.drop 0 = dktX6_tiesNow_0 := by decide +kernel
theorem dksX6_tiesNow_1 : cX6_tiesNow.data.toList.drop 23 = dktX6_tiesNow_1 := dk_seg dksX6_tiesNow_0 23 rfl rfl
theorem dksX6_tiesNow_2 : cX6_tiesNow.data.toList.drop 45 = dktX6_tiesNow_2 := dk_seg dksX6_tiesNow_1 22 rfl rfl
theorem dX6_tiesNow_0 : decode cX6_tiesNow 0 = .ok (.iconst 0, 1) := dk_3 (dk_at dksX6_tiesNow_0 0 rfl rfl)
theorem dX6_tiesNow_1 : decode cX6_tiesNow 1 = .ok (.istore_n 1, 1) := dk_60 (dk_at dksX6_tiesNow_0 1 rfl rfl)
theorem dX6_tiesNow_2 : decode cX6_tiesNow 2 = .ok (.iconst 0, 1) := dk_3 (dk_at dksX6_tiesNow_0 2 rfl rfl)
theorem dX6_tiesNow_3 : decode cX6_tiesNow 3 = .ok (.istore_n 2, 1) := dk_61 (dk_at dksX6_tiesNow_0 3 rfl rfl)
theorem dX6_tiesNow_4 : decode cX6_tiesNow 4 = .ok (.iload_n 2, 1) := dk_28 (dk_at dksX6_tiesNow_0 4 rfl rfl)
theorem dX6_tiesNow_5 : decode cX6_tiesNow 5 = .ok (.aload_n 0, 1) := dk_42 (dk_at dksX6_tiesNow_0 5 rfl rfl)
theorem dX6_tiesNow_6 : decode cX6_tiesNow 6 = .ok (.getfield 7, 3) := dk_180 0 7 (dk_at dksX6_tiesNow_0 6 rfl rfl)
theorem dX6_tiesNow_9 : decode cX6_tiesNow 9 = .ok (.iconst 0, 1) := dk_3 (dk_at dksX6_tiesNow_0 9 rfl rfl)
theorem dX6_tiesNow_10 : decode cX6_tiesNow 10 = .ok (.iaload, 1) := dk_46 (dk_at dksX6_tiesNow_0 10 rfl rfl)
theorem dX6_tiesNow_11 : decode cX6_tiesNow 11 = .ok (.if_icmp .ge 56, 3) := dk_162 0 56 (dk_at dksX6_tiesNow_0 11 rfl rfl)
theorem dX6_tiesNow_14 : decode cX6_tiesNow 14 = .ok (.iconst 0, 1) := dk_3 (dk_at dksX6_tiesNow_0 14 rfl rfl)
theorem dX6_tiesNow_15 : decode cX6_tiesNow 15 = .ok (.istore_n 3, 1) := dk_62 (dk_at dksX6_tiesNow_0 15 rfl rfl)
theorem dX6_tiesNow_16 : decode cX6_tiesNow 16 = .ok (.iload_n 3, 1) := dk_29 (dk_at dksX6_tiesNow_0 16 rfl rfl)
theorem dX6_tiesNow_17 : decode cX6_tiesNow 17 = .ok (.iload_n 2, 1) := dk_28 (dk_at dksX6_tiesNow_0 17 rfl rfl)
theorem dX6_tiesNow_18 : decode cX6_tiesNow 18 = .ok (.if_icmp .ge 43, 3) := dk_162 0 43 (dk_at dksX6_tiesNow_0 18 rfl rfl)
theorem dX6_tiesNow_21 : decode cX6_tiesNow 21 = .ok (.iload_n 1, 1) := dk_27 (dk_at dksX6_tiesNow_0 21 rfl rfl)
theorem dX6_tiesNow_22 : decode cX6_tiesNow 22 = .ok (.aload_n 0, 1) := dk_42 (dk_at dksX6_tiesNow_0 22 rfl rfl)
theorem dX6_tiesNow_23 : decode cX6_tiesNow 23 = .ok (.getfield 7, 3) := dk_180 0 7 (dk_at dksX6_tiesNow_1 0 rfl rfl)
theorem dX6_tiesNow_26 : decode cX6_tiesNow 26 = .ok (.iload_n 2, 1) := dk_28 (dk_at dksX6_tiesNow_1 3 rfl rfl)
theorem dX6_tiesNow_27 : decode cX6_tiesNow 27 = .ok (.iload_n 3, 1) := dk_29 (dk_at dksX6_tiesNow_1 4 rfl rfl)
theorem dX6_tiesNow_28 : decode cX6_tiesNow 28 = .ok (.invokestatic 312, 3) := dk_184 1 56 (dk_at dksX6_tiesNow_1 5 rfl rfl)
theorem dX6_tiesNow_31 : decode cX6_tiesNow 31 = .ok (.iaload, 1) := dk_46 (dk_at dksX6_tiesNow_1 8 rfl rfl)
theorem dX6_tiesNow_32 : decode cX6_tiesNow 32 = .ok (.ifCond .gt 16, 3) := dk_157 0 16 (dk_at dksX6_tiesNow_1 9 rfl rfl)
theorem dX6_tiesNow_35 : decode cX6_tiesNow 35 = .ok (.aload_n 0, 1) := dk_42 (dk_at dksX6_tiesNow_1 12 rfl rfl)
theorem dX6_tiesNow_36 : decode cX6_tiesNow 36 = .ok (.getfield 7, 3) := dk_180 0 7 (dk_at dksX6_tiesNow_1 13 rfl rfl)
theorem dX6_tiesNow_39 : decode cX6_tiesNow 39 = .ok (.iload_n 3, 1) := dk_29 (dk_at dksX6_tiesNow_1 16 rfl rfl)
theorem dX6_tiesNow_40 : decode cX6_tiesNow 40 = .ok (.iload_n 2, 1) := dk_28 (dk_at dksX6_tiesNow_1 17 rfl rfl)
theorem dX6_tiesNow_41 : decode cX6_tiesNow 41 = .ok (.invokestatic 312, 3) := dk_184 1 56 (dk_at dksX6_tiesNow_1 18 rfl rfl)
theorem dX6_tiesNow_44 : decode cX6_tiesNow 44 = .ok (.iaload, 1) := dk_46 (dk_at dksX6_tiesNow_1 21 rfl rfl)
theorem dX6_tiesNow_45 : decode cX6_tiesNow 45 = .ok (.ifCond .le 7, 3) := dk_158 0 7 (dk_at dksX6_tiesNow_2 0 rfl rfl)
theorem dX6_tiesNow_48 : decode cX6_tiesNow 48 = .ok (.iconst 1, 1) := dk_4 (dk_at dksX6_tiesNow_2 3 rfl rfl)
theorem dX6_tiesNow_49 : decode cX6_tiesNow 49 = .ok (.goto 4, 3) := dk_167 0 4 (dk_at dksX6_tiesNow_2 4 rfl rfl)
theorem dX6_tiesNow_52 : decode cX6_tiesNow 52 = .ok (.iconst 0, 1) := dk_3 (dk_at dksX6_tiesNow_2 7 rfl rfl)
theorem dX6_tiesNow_53 : decode cX6_tiesNow 53 = .ok (.iadd, 1) := dk_96 (dk_at dksX6_tiesNow_2 8 rfl rfl)
theorem dX6_tiesNow_54 : decode cX6_tiesNow 54 = .ok (.istore_n 1, 1) := dk_60 (dk_at dksX6_tiesNow_2 9 rfl rfl)
theorem dX6_tiesNow_55 : decode cX6_tiesNow 55 = .ok (.iinc 3 1, 3) := dk_132 3 1 (dk_at dksX6_tiesNow_2 10 rfl rfl)
theorem dX6_tiesNow_58 : decode cX6_tiesNow 58 = .ok (.goto (-42), 3) := dk_167 255 214 (dk_at dksX6_tiesNow_2 13 rfl rfl)
theorem dX6_tiesNow_61 : decode cX6_tiesNow 61 = .ok (.iinc 2 1, 3) := dk_132 2 1 (dk_at dksX6_tiesNow_2 16 rfl rfl)
theorem dX6_tiesNow_64 : decode cX6_tiesNow 64 = .ok (.goto (-60), 3) := dk_167 255 196 (dk_at dksX6_tiesNow_2 19 rfl rfl)
theorem dX6_tiesNow_67 : decode cX6_tiesNow 67 = .ok (.iload_n 1, 1) := dk_27 (dk_at dksX6_tiesNow_2 22 rfl rfl)
theorem dX6_tiesNow_68 : decode cX6_tiesNow 68 = .ok (.ireturn, 1) := dk_172 (dk_at dksX6_tiesNow_2 23 rfl rfl)
abbrev cX6_extreme : ByteArray := prog_16_method_116_code
def yX6_extreme : MethodName := ⟨RX6, "extreme", "(I)I"⟩
def dkwX6_extreme_1 : List UInt8 := [42, 182, 1, 113, 167, 0, 7, 42, 182, 1, 116, 182, 1, 35, 172]
abbrev dktX6_extreme_1 : List UInt8 := dkwX6_extreme_1 ++ []
def dkwX6_extreme_0 : List UInt8 := [27, 155, 0, 8, 27, 4, 164, 0, 9, 42, 4, 182, 0, 75, 172, 42, 182, 1, 110, 42, 27, 154, 0, 10]
abbrev dktX6_extreme_0 : List UInt8 := dkwX6_extreme_0 ++ dktX6_extreme_1
theorem dksX6_extreme_0 : cX6_extreme.data.toList.drop 0 = dktX6_extreme_0 := by decide +kernel
theorem dksX6_extreme_1 : cX6_extreme.data.toList.drop 24 = dktX6_extreme_1 := dk_seg dksX6_extreme_0 24 rfl rfl
theorem dX6_extreme_0 : decode cX6_extreme 0 = .ok (.iload_n 1, 1) := dk_27 (dk_at dksX6_extreme_0 0 rfl rfl)
theorem dX6_extreme_1 : decode cX6_extreme 1 = .ok (.ifCond .lt 8, 3) := dk_155 0 8 (dk_at dksX6_extreme_0 1 rfl rfl)
theorem dX6_extreme_4 : decode cX6_extreme 4 = .ok (.iload_n 1, 1) := dk_27 (dk_at dksX6_extreme_0 4 rfl rfl)
theorem dX6_extreme_5 : decode cX6_extreme 5 = .ok (.iconst 1, 1) := dk_4 (dk_at dksX6_extreme_0 5 rfl rfl)
theorem dX6_extreme_6 : decode cX6_extreme 6 = .ok (.if_icmp .le 9, 3) := dk_164 0 9 (dk_at dksX6_extreme_0 6 rfl rfl)
theorem dX6_extreme_9 : decode cX6_extreme 9 = .ok (.aload_n 0, 1) := dk_42 (dk_at dksX6_extreme_0 9 rfl rfl)
theorem dX6_extreme_10 : decode cX6_extreme 10 = .ok (.iconst 1, 1) := dk_4 (dk_at dksX6_extreme_0 10 rfl rfl)
theorem dX6_extreme_11 : decode cX6_extreme 11 = .ok (.invokevirtual 75, 3) := dk_182 0 75 (dk_at dksX6_extreme_0 11 rfl rfl)
theorem dX6_extreme_14 : decode cX6_extreme 14 = .ok (.ireturn, 1) := dk_172 (dk_at dksX6_extreme_0 14 rfl rfl)
theorem dX6_extreme_15 : decode cX6_extreme 15 = .ok (.aload_n 0, 1) := dk_42 (dk_at dksX6_extreme_0 15 rfl rfl)
theorem dX6_extreme_16 : decode cX6_extreme 16 = .ok (.invokevirtual 366, 3) := dk_182 1 110 (dk_at dksX6_extreme_0 16 rfl rfl)
theorem dX6_extreme_19 : decode cX6_extreme 19 = .ok (.aload_n 0, 1) := dk_42 (dk_at dksX6_extreme_0 19 rfl rfl)
theorem dX6_extreme_20 : decode cX6_extreme 20 = .ok (.iload_n 1, 1) := dk_27 (dk_at dksX6_extreme_0 20 rfl rfl)
theorem dX6_extreme_21 : decode cX6_extreme 21 = .ok (.ifCond .ne 10, 3) := dk_154 0 10 (dk_at dksX6_extreme_0 21 rfl rfl)
theorem dX6_extreme_24 : decode cX6_extreme 24 = .ok (.aload_n 0, 1) := dk_42 (dk_at dksX6_extreme_1 0 rfl rfl)
theorem dX6_extreme_25 : decode cX6_extreme 25 = .ok (.invokevirtual 369, 3) := dk_182 1 113 (dk_at dksX6_extreme_1 1 rfl rfl)
theorem dX6_extreme_28 : decode cX6_extreme 28 = .ok (.goto 7, 3) := dk_167 0 7 (dk_at dksX6_extreme_1 4 rfl rfl)
theorem dX6_extreme_31 : decode cX6_extreme 31 = .ok (.aload_n 0, 1) := dk_42 (dk_at dksX6_extreme_1 7 rfl rfl)
theorem dX6_extreme_32 : decode cX6_extreme 32 = .ok (.invokevirtual 372, 3) := dk_182 1 116 (dk_at dksX6_extreme_1 8 rfl rfl)
theorem dX6_extreme_35 : decode cX6_extreme 35 = .ok (.invokevirtual 291, 3) := dk_182 1 35 (dk_at dksX6_extreme_1 11 rfl rfl)
theorem dX6_extreme_38 : decode cX6_extreme 38 = .ok (.ireturn, 1) := dk_172 (dk_at dksX6_extreme_1 14 rfl rfl)
abbrev cX6_laysBalances : ByteArray := prog_16_method_115_code
def yX6_laysBalances : MethodName := ⟨RX6, "laysBalances", "()V"⟩
def dkwX6_laysBalances_1 : List UInt8 := [132, 1, 1, 167, 255, 232, 177]
abbrev dktX6_laysBalances_1 : List UInt8 := dkwX6_laysBalances_1 ++ []
def dkwX6_laysBalances_0 : List UInt8 := [3, 60, 27, 42, 180, 0, 7, 3, 46, 162, 0, 20, 42, 180, 0, 50, 27, 42, 27, 182, 1, 63, 79]
abbrev dktX6_laysBalances_0 : List UInt8 := dkwX6_laysBalances_0 ++ dktX6_laysBalances_1
theorem dksX6_laysBalances_0 : cX6_laysBalances.data.toList.drop 0 = dktX6_laysBalances_0 := by decide +kernel
theorem dksX6_laysBalances_1 : cX6_laysBalances.data.toList.drop 23 = dktX6_laysBalances_1 := dk_seg dksX6_laysBalances_0 23 rfl rfl
theorem dX6_laysBalances_0 : decode cX6_laysBalances 0 = .ok (.iconst 0, 1) := dk_3 (dk_at dksX6_laysBalances_0 0 rfl rfl)
theorem dX6_laysBalances_1 : decode cX6_laysBalances 1 = .ok (.istore_n 1, 1) := dk_60 (dk_at dksX6_laysBalances_0 1 rfl rfl)
theorem dX6_laysBalances_2 : decode cX6_laysBalances 2 = .ok (.iload_n 1, 1) := dk_27 (dk_at dksX6_laysBalances_0 2 rfl rfl)
theorem dX6_laysBalances_3 : decode cX6_laysBalances 3 = .ok (.aload_n 0, 1) := dk_42 (dk_at dksX6_laysBalances_0 3 rfl rfl)
theorem dX6_laysBalances_4 : decode cX6_laysBalances 4 = .ok (.getfield 7, 3) := dk_180 0 7 (dk_at dksX6_laysBalances_0 4 rfl rfl)
theorem dX6_laysBalances_7 : decode cX6_laysBalances 7 = .ok (.iconst 0, 1) := dk_3 (dk_at dksX6_laysBalances_0 7 rfl rfl)
theorem dX6_laysBalances_8 : decode cX6_laysBalances 8 = .ok (.iaload, 1) := dk_46 (dk_at dksX6_laysBalances_0 8 rfl rfl)
theorem dX6_laysBalances_9 : decode cX6_laysBalances 9 = .ok (.if_icmp .ge 20, 3) := dk_162 0 20 (dk_at dksX6_laysBalances_0 9 rfl rfl)
theorem dX6_laysBalances_12 : decode cX6_laysBalances 12 = .ok (.aload_n 0, 1) := dk_42 (dk_at dksX6_laysBalances_0 12 rfl rfl)
theorem dX6_laysBalances_13 : decode cX6_laysBalances 13 = .ok (.getfield 50, 3) := dk_180 0 50 (dk_at dksX6_laysBalances_0 13 rfl rfl)
theorem dX6_laysBalances_16 : decode cX6_laysBalances 16 = .ok (.iload_n 1, 1) := dk_27 (dk_at dksX6_laysBalances_0 16 rfl rfl)
theorem dX6_laysBalances_17 : decode cX6_laysBalances 17 = .ok (.aload_n 0, 1) := dk_42 (dk_at dksX6_laysBalances_0 17 rfl rfl)
theorem dX6_laysBalances_18 : decode cX6_laysBalances 18 = .ok (.iload_n 1, 1) := dk_27 (dk_at dksX6_laysBalances_0 18 rfl rfl)
theorem dX6_laysBalances_19 : decode cX6_laysBalances 19 = .ok (.invokevirtual 319, 3) := dk_182 1 63 (dk_at dksX6_laysBalances_0 19 rfl rfl)
theorem dX6_laysBalances_22 : decode cX6_laysBalances 22 = .ok (.iastore, 1) := dk_79 (dk_at dksX6_laysBalances_0 22 rfl rfl)
theorem dX6_laysBalances_23 : decode cX6_laysBalances 23 = .ok (.iinc 1 1, 3) := dk_132 1 1 (dk_at dksX6_laysBalances_1 0 rfl rfl)
theorem dX6_laysBalances_26 : decode cX6_laysBalances 26 = .ok (.goto (-24), 3) := dk_167 255 232 (dk_at dksX6_laysBalances_1 3 rfl rfl)
theorem dX6_laysBalances_29 : decode cX6_laysBalances 29 = .ok (.return_, 1) := dk_177 (dk_at dksX6_laysBalances_1 6 rfl rfl)
abbrev cX6_leastLeft : ByteArray := prog_16_method_113_code
def yX6_leastLeft : MethodName := ⟨RX6, "leastLeft", "()I"⟩
def dkwX6_leastLeft_1 : List UInt8 := [46, 42, 180, 0, 50, 27, 46, 162, 0, 5, 28, 60, 132, 2, 1, 167, 255, 221, 27, 172]
abbrev dktX6_leastLeft_1 : List UInt8 := dkwX6_leastLeft_1 ++ []
def dkwX6_leastLeft_0 : List UInt8 := [2, 60, 3, 61, 28, 42, 180, 0, 7, 3, 46, 162, 0, 31, 27, 2, 159, 0, 18, 42, 180, 0, 50, 28]
abbrev dktX6_leastLeft_0 : List UInt8 := dkwX6_leastLeft_0 ++ dktX6_leastLeft_1
theorem dksX6_leastLeft_0 : cX6_leastLeft.data.toList.drop 0 = dktX6_leastLeft_0 := by decide +kernel
theorem dksX6_leastLeft_1 : cX6_leastLeft.data.toList.drop 24 = dktX6_leastLeft_1 := dk_seg dksX6_leastLeft_0 24 rfl rfl
theorem dX6_leastLeft_0 : decode cX6_leastLeft 0 = .ok (.iconst (-1), 1) := dk_2 (dk_at dksX6_leastLeft_0 0 rfl rfl)
theorem dX6_leastLeft_1 : decode cX6_leastLeft 1 = .ok (.istore_n 1, 1) := dk_60 (dk_at dksX6_leastLeft_0 1 rfl rfl)
theorem dX6_leastLeft_2 : decode cX6_leastLeft 2 = .ok (.iconst 0, 1) := dk_3 (dk_at dksX6_leastLeft_0 2 rfl rfl)
theorem dX6_leastLeft_3 : decode cX6_leastLeft 3 = .ok (.istore_n 2, 1) := dk_61 (dk_at dksX6_leastLeft_0 3 rfl rfl)
theorem dX6_leastLeft_4 : decode cX6_leastLeft 4 = .ok (.iload_n 2, 1) := dk_28 (dk_at dksX6_leastLeft_0 4 rfl rfl)
theorem dX6_leastLeft_5 : decode cX6_leastLeft 5 = .ok (.aload_n 0, 1) := dk_42 (dk_at dksX6_leastLeft_0 5 rfl rfl)
theorem dX6_leastLeft_6 : decode cX6_leastLeft 6 = .ok (.getfield 7, 3) := dk_180 0 7 (dk_at dksX6_leastLeft_0 6 rfl rfl)
theorem dX6_leastLeft_9 : decode cX6_leastLeft 9 = .ok (.iconst 0, 1) := dk_3 (dk_at dksX6_leastLeft_0 9 rfl rfl)
theorem dX6_leastLeft_10 : decode cX6_leastLeft 10 = .ok (.iaload, 1) := dk_46 (dk_at dksX6_leastLeft_0 10 rfl rfl)
theorem dX6_leastLeft_11 : decode cX6_leastLeft 11 = .ok (.if_icmp .ge 31, 3) := dk_162 0 31 (dk_at dksX6_leastLeft_0 11 rfl rfl)
theorem dX6_leastLeft_14 : decode cX6_leastLeft 14 = .ok (.iload_n 1, 1) := dk_27 (dk_at dksX6_leastLeft_0 14 rfl rfl)
theorem dX6_leastLeft_15 : decode cX6_leastLeft 15 = .ok (.iconst (-1), 1) := dk_2 (dk_at dksX6_leastLeft_0 15 rfl rfl)
theorem dX6_leastLeft_16 : decode cX6_leastLeft 16 = .ok (.if_icmp .eq 18, 3) := dk_159 0 18 (dk_at dksX6_leastLeft_0 16 rfl rfl)
theorem dX6_leastLeft_19 : decode cX6_leastLeft 19 = .ok (.aload_n 0, 1) := dk_42 (dk_at dksX6_leastLeft_0 19 rfl rfl)
theorem dX6_leastLeft_20 : decode cX6_leastLeft 20 = .ok (.getfield 50, 3) := dk_180 0 50 (dk_at dksX6_leastLeft_0 20 rfl rfl)
theorem dX6_leastLeft_23 : decode cX6_leastLeft 23 = .ok (.iload_n 2, 1) := dk_28 (dk_at dksX6_leastLeft_0 23 rfl rfl)
theorem dX6_leastLeft_24 : decode cX6_leastLeft 24 = .ok (.iaload, 1) := dk_46 (dk_at dksX6_leastLeft_1 0 rfl rfl)
theorem dX6_leastLeft_25 : decode cX6_leastLeft 25 = .ok (.aload_n 0, 1) := dk_42 (dk_at dksX6_leastLeft_1 1 rfl rfl)
theorem dX6_leastLeft_26 : decode cX6_leastLeft 26 = .ok (.getfield 50, 3) := dk_180 0 50 (dk_at dksX6_leastLeft_1 2 rfl rfl)
theorem dX6_leastLeft_29 : decode cX6_leastLeft 29 = .ok (.iload_n 1, 1) := dk_27 (dk_at dksX6_leastLeft_1 5 rfl rfl)
theorem dX6_leastLeft_30 : decode cX6_leastLeft 30 = .ok (.iaload, 1) := dk_46 (dk_at dksX6_leastLeft_1 6 rfl rfl)
theorem dX6_leastLeft_31 : decode cX6_leastLeft 31 = .ok (.if_icmp .ge 5, 3) := dk_162 0 5 (dk_at dksX6_leastLeft_1 7 rfl rfl)
theorem dX6_leastLeft_34 : decode cX6_leastLeft 34 = .ok (.iload_n 2, 1) := dk_28 (dk_at dksX6_leastLeft_1 10 rfl rfl)
theorem dX6_leastLeft_35 : decode cX6_leastLeft 35 = .ok (.istore_n 1, 1) := dk_60 (dk_at dksX6_leastLeft_1 11 rfl rfl)
theorem dX6_leastLeft_36 : decode cX6_leastLeft 36 = .ok (.iinc 2 1, 3) := dk_132 2 1 (dk_at dksX6_leastLeft_1 12 rfl rfl)
theorem dX6_leastLeft_39 : decode cX6_leastLeft 39 = .ok (.goto (-35), 3) := dk_167 255 221 (dk_at dksX6_leastLeft_1 15 rfl rfl)
theorem dX6_leastLeft_42 : decode cX6_leastLeft 42 = .ok (.iload_n 1, 1) := dk_27 (dk_at dksX6_leastLeft_1 18 rfl rfl)
theorem dX6_leastLeft_43 : decode cX6_leastLeft 43 = .ok (.ireturn, 1) := dk_172 (dk_at dksX6_leastLeft_1 19 rfl rfl)
abbrev cX6_mostLeft : ByteArray := prog_16_method_114_code
def yX6_mostLeft : MethodName := ⟨RX6, "mostLeft", "()I"⟩
def dkwX6_mostLeft_1 : List UInt8 := [46, 42, 180, 0, 50, 27, 46, 164, 0, 5, 28, 60, 132, 2, 1, 167, 255, 221, 27, 172]
abbrev dktX6_mostLeft_1 : List UInt8 := dkwX6_mostLeft_1 ++ []
def dkwX6_mostLeft_0 : List UInt8 := [2, 60, 3, 61, 28, 42, 180, 0, 7, 3, 46, 162, 0, 31, 27, 2, 159, 0, 18, 42, 180, 0, 50, 28]
abbrev dktX6_mostLeft_0 : List UInt8 := dkwX6_mostLeft_0 ++ dktX6_mostLeft_1
theorem dksX6_mostLeft_0 : cX6_mostLeft.data.toList.drop 0 = dktX6_mostLeft_0 := by decide +kernel
theorem dksX6_mostLeft_1 : cX6_mostLeft.data.toList.drop 24 = dktX6_mostLeft_1 := dk_seg dksX6_mostLeft_0 24 rfl rfl
theorem dX6_mostLeft_0 : decode cX6_mostLeft 0 = .ok (.iconst (-1), 1) := dk_2 (dk_at dksX6_mostLeft_0 0 rfl rfl)
theorem dX6_mostLeft_1 : decode cX6_mostLeft 1 = .ok (.istore_n 1, 1) := dk_60 (dk_at dksX6_mostLeft_0 1 rfl rfl)
theorem dX6_mostLeft_2 : decode cX6_mostLeft 2 = .ok (.iconst 0, 1) := dk_3 (dk_at dksX6_mostLeft_0 2 rfl rfl)
theorem dX6_mostLeft_3 : decode cX6_mostLeft 3 = .ok (.istore_n 2, 1) := dk_61 (dk_at dksX6_mostLeft_0 3 rfl rfl)
theorem dX6_mostLeft_4 : decode cX6_mostLeft 4 = .ok (.iload_n 2, 1) := dk_28 (dk_at dksX6_mostLeft_0 4 rfl rfl)
theorem dX6_mostLeft_5 : decode cX6_mostLeft 5 = .ok (.aload_n 0, 1) := dk_42 (dk_at dksX6_mostLeft_0 5 rfl rfl)
theorem dX6_mostLeft_6 : decode cX6_mostLeft 6 = .ok (.getfield 7, 3) := dk_180 0 7 (dk_at dksX6_mostLeft_0 6 rfl rfl)
theorem dX6_mostLeft_9 : decode cX6_mostLeft 9 = .ok (.iconst 0, 1) := dk_3 (dk_at dksX6_mostLeft_0 9 rfl rfl)
theorem dX6_mostLeft_10 : decode cX6_mostLeft 10 = .ok (.iaload, 1) := dk_46 (dk_at dksX6_mostLeft_0 10 rfl rfl)
theorem dX6_mostLeft_11 : decode cX6_mostLeft 11 = .ok (.if_icmp .ge 31, 3) := dk_162 0 31 (dk_at dksX6_mostLeft_0 11 rfl rfl)
theorem dX6_mostLeft_14 : decode cX6_mostLeft 14 = .ok (.iload_n 1, 1) := dk_27 (dk_at dksX6_mostLeft_0 14 rfl rfl)
theorem dX6_mostLeft_15 : decode cX6_mostLeft 15 = .ok (.iconst (-1), 1) := dk_2 (dk_at dksX6_mostLeft_0 15 rfl rfl)
theorem dX6_mostLeft_16 : decode cX6_mostLeft 16 = .ok (.if_icmp .eq 18, 3) := dk_159 0 18 (dk_at dksX6_mostLeft_0 16 rfl rfl)
theorem dX6_mostLeft_19 : decode cX6_mostLeft 19 = .ok (.aload_n 0, 1) := dk_42 (dk_at dksX6_mostLeft_0 19 rfl rfl)
theorem dX6_mostLeft_20 : decode cX6_mostLeft 20 = .ok (.getfield 50, 3) := dk_180 0 50 (dk_at dksX6_mostLeft_0 20 rfl rfl)
theorem dX6_mostLeft_23 : decode cX6_mostLeft 23 = .ok (.iload_n 2, 1) := dk_28 (dk_at dksX6_mostLeft_0 23 rfl rfl)
theorem dX6_mostLeft_24 : decode cX6_mostLeft 24 = .ok (.iaload, 1) := dk_46 (dk_at dksX6_mostLeft_1 0 rfl rfl)
theorem dX6_mostLeft_25 : decode cX6_mostLeft 25 = .ok (.aload_n 0, 1) := dk_42 (dk_at dksX6_mostLeft_1 1 rfl rfl)
theorem dX6_mostLeft_26 : decode cX6_mostLeft 26 = .ok (.getfield 50, 3) := dk_180 0 50 (dk_at dksX6_mostLeft_1 2 rfl rfl)
theorem dX6_mostLeft_29 : decode cX6_mostLeft 29 = .ok (.iload_n 1, 1) := dk_27 (dk_at dksX6_mostLeft_1 5 rfl rfl)
theorem dX6_mostLeft_30 : decode cX6_mostLeft 30 = .ok (.iaload, 1) := dk_46 (dk_at dksX6_mostLeft_1 6 rfl rfl)
theorem dX6_mostLeft_31 : decode cX6_mostLeft 31 = .ok (.if_icmp .le 5, 3) := dk_164 0 5 (dk_at dksX6_mostLeft_1 7 rfl rfl)
theorem dX6_mostLeft_34 : decode cX6_mostLeft 34 = .ok (.iload_n 2, 1) := dk_28 (dk_at dksX6_mostLeft_1 10 rfl rfl)
theorem dX6_mostLeft_35 : decode cX6_mostLeft 35 = .ok (.istore_n 1, 1) := dk_60 (dk_at dksX6_mostLeft_1 11 rfl rfl)
theorem dX6_mostLeft_36 : decode cX6_mostLeft 36 = .ok (.iinc 2 1, 3) := dk_132 2 1 (dk_at dksX6_mostLeft_1 12 rfl rfl)
theorem dX6_mostLeft_39 : decode cX6_mostLeft 39 = .ok (.goto (-35), 3) := dk_167 255 221 (dk_at dksX6_mostLeft_1 15 rfl rfl)
theorem dX6_mostLeft_42 : decode cX6_mostLeft 42 = .ok (.iload_n 1, 1) := dk_27 (dk_at dksX6_mostLeft_1 18 rfl rfl)
theorem dX6_mostLeft_43 : decode cX6_mostLeft 43 = .ok (.ireturn, 1) := dk_172 (dk_at dksX6_mostLeft_1 19 rfl rfl)
abbrev cX6_simplify : ByteArray := prog_16_method_117_code
def yX6_simplify : MethodName := ⟨RX6, "simplify", "()I"⟩
def dkwX6_simplify_7 : List UInt8 := [180, 0, 53, 27, 46, 79, 132, 1, 1, 167, 255, 232, 42, 42, 182, 1, 107, 182, 0, 79, 172]
abbrev dktX6_simplify_7 : List UInt8 := dkwX6_simplify_7 ++ []
def dkwX6_simplify_6 : List UInt8 := [132, 1, 1, 167, 255, 228, 3, 60, 27, 16, 36, 162, 0, 24, 42, 180, 0, 7, 16, 92, 27, 96, 42]
abbrev dktX6_simplify_6 : List UInt8 := dkwX6_simplify_6 ++ dktX6_simplify_7
def dkwX6_simplify_5 : List UInt8 := [162, 0, 28, 42, 180, 0, 53, 27, 46, 19, 1, 59, 164, 0, 10, 42, 16, 7, 182, 0, 75, 172]
abbrev dktX6_simplify_5 : List UInt8 := dkwX6_simplify_5 ++ dktX6_simplify_6
def dkwX6_simplify_4 : List UInt8 := [92, 46, 29, 96, 79, 42, 180, 0, 50, 28, 92, 46, 29, 100, 79, 167, 255, 173, 3, 60, 27, 16, 36]
abbrev dktX6_simplify_4 : List UInt8 := dkwX6_simplify_4 ++ dktX6_simplify_5
def dkwX6_simplify_3 : List UInt8 := [184, 0, 130, 62, 42, 180, 0, 53, 16, 6, 27, 104, 28, 96, 92, 46, 29, 96, 79, 42, 180, 0, 50, 27]
abbrev dktX6_simplify_3 : List UInt8 := dkwX6_simplify_3 ++ dktX6_simplify_4
def dkwX6_simplify_2 : List UInt8 := [42, 182, 1, 113, 60, 42, 182, 1, 116, 61, 42, 180, 0, 50, 27, 46, 116, 42, 180, 0, 50, 28, 46]
abbrev dktX6_simplify_2 : List UInt8 := dkwX6_simplify_2 ++ dktX6_simplify_3
def dkwX6_simplify_1 : List UInt8 := [167, 255, 240, 42, 180, 0, 7, 3, 46, 158, 0, 80, 42, 180, 0, 50, 42, 182, 1, 113, 46, 156, 0, 68]
abbrev dktX6_simplify_1 : List UInt8 := dkwX6_simplify_1 ++ dktX6_simplify_2
def dkwX6_simplify_0 : List UInt8 := [42, 182, 1, 110, 3, 60, 27, 16, 36, 162, 0, 16, 42, 180, 0, 53, 27, 3, 79, 132, 1, 1]
abbrev dktX6_simplify_0 : List UInt8 := dkwX6_simplify_0 ++ dktX6_simplify_1
theorem dksX6_simplify_0 : cX6_simplify.data.toList.drop 0 = dktX6_simplify_0 := by decide +kernel
theorem dksX6_simplify_1 : cX6_simplify.data.toList.drop 22 = dktX6_simplify_1 := dk_seg dksX6_simplify_0 22 rfl rfl
theorem dksX6_simplify_2 : cX6_simplify.data.toList.drop 46 = dktX6_simplify_2 := dk_seg dksX6_simplify_1 24 rfl rfl
theorem dksX6_simplify_3 : cX6_simplify.data.toList.drop 69 = dktX6_simplify_3 := dk_seg dksX6_simplify_2 23 rfl rfl
theorem dksX6_simplify_4 : cX6_simplify.data.toList.drop 93 = dktX6_simplify_4 := dk_seg dksX6_simplify_3 24 rfl rfl
theorem dksX6_simplify_5 : cX6_simplify.data.toList.drop 116 = dktX6_simplify_5 := dk_seg dksX6_simplify_4 23 rfl rfl
theorem dksX6_simplify_6 : cX6_simplify.data.toList.drop 138 = dktX6_simplify_6 := dk_seg dksX6_simplify_5 22 rfl rfl
theorem dksX6_simplify_7 : cX6_simplify.data.toList.drop 161 = dktX6_simplify_7 := dk_seg dksX6_simplify_6 23 rfl rfl
theorem dX6_simplify_0 : decode cX6_simplify 0 = .ok (.aload_n 0, 1) := dk_42 (dk_at dksX6_simplify_0 0 rfl rfl)
theorem dX6_simplify_1 : decode cX6_simplify 1 = .ok (.invokevirtual 366, 3) := dk_182 1 110 (dk_at dksX6_simplify_0 1 rfl rfl)
theorem dX6_simplify_4 : decode cX6_simplify 4 = .ok (.iconst 0, 1) := dk_3 (dk_at dksX6_simplify_0 4 rfl rfl)
theorem dX6_simplify_5 : decode cX6_simplify 5 = .ok (.istore_n 1, 1) := dk_60 (dk_at dksX6_simplify_0 5 rfl rfl)
theorem dX6_simplify_6 : decode cX6_simplify 6 = .ok (.iload_n 1, 1) := dk_27 (dk_at dksX6_simplify_0 6 rfl rfl)
theorem dX6_simplify_7 : decode cX6_simplify 7 = .ok (.bipush 36, 2) := dk_16 36 (dk_at dksX6_simplify_0 7 rfl rfl)
theorem dX6_simplify_9 : decode cX6_simplify 9 = .ok (.if_icmp .ge 16, 3) := dk_162 0 16 (dk_at dksX6_simplify_0 9 rfl rfl)
theorem dX6_simplify_12 : decode cX6_simplify 12 = .ok (.aload_n 0, 1) := dk_42 (dk_at dksX6_simplify_0 12 rfl rfl)
theorem dX6_simplify_13 : decode cX6_simplify 13 = .ok (.getfield 53, 3) := dk_180 0 53 (dk_at dksX6_simplify_0 13 rfl rfl)
theorem dX6_simplify_16 : decode cX6_simplify 16 = .ok (.iload_n 1, 1) := dk_27 (dk_at dksX6_simplify_0 16 rfl rfl)
theorem dX6_simplify_17 : decode cX6_simplify 17 = .ok (.iconst 0, 1) := dk_3 (dk_at dksX6_simplify_0 17 rfl rfl)
theorem dX6_simplify_18 : decode cX6_simplify 18 = .ok (.iastore, 1) := dk_79 (dk_at dksX6_simplify_0 18 rfl rfl)
theorem dX6_simplify_19 : decode cX6_simplify 19 = .ok (.iinc 1 1, 3) := dk_132 1 1 (dk_at dksX6_simplify_0 19 rfl rfl)
theorem dX6_simplify_22 : decode cX6_simplify 22 = .ok (.goto (-16), 3) := dk_167 255 240 (dk_at dksX6_simplify_1 0 rfl rfl)
theorem dX6_simplify_25 : decode cX6_simplify 25 = .ok (.aload_n 0, 1) := dk_42 (dk_at dksX6_simplify_1 3 rfl rfl)
theorem dX6_simplify_26 : decode cX6_simplify 26 = .ok (.getfield 7, 3) := dk_180 0 7 (dk_at dksX6_simplify_1 4 rfl rfl)
theorem dX6_simplify_29 : decode cX6_simplify 29 = .ok (.iconst 0, 1) := dk_3 (dk_at dksX6_simplify_1 7 rfl rfl)
theorem dX6_simplify_30 : decode cX6_simplify 30 = .ok (.iaload, 1) := dk_46 (dk_at dksX6_simplify_1 8 rfl rfl)
theorem dX6_simplify_31 : decode cX6_simplify 31 = .ok (.ifCond .le 80, 3) := dk_158 0 80 (dk_at dksX6_simplify_1 9 rfl rfl)
theorem dX6_simplify_34 : decode cX6_simplify 34 = .ok (.aload_n 0, 1) := dk_42 (dk_at dksX6_simplify_1 12 rfl rfl)
theorem dX6_simplify_35 : decode cX6_simplify 35 = .ok (.getfield 50, 3) := dk_180 0 50 (dk_at dksX6_simplify_1 13 rfl rfl)
theorem dX6_simplify_38 : decode cX6_simplify 38 = .ok (.aload_n 0, 1) := dk_42 (dk_at dksX6_simplify_1 16 rfl rfl)
theorem dX6_simplify_39 : decode cX6_simplify 39 = .ok (.invokevirtual 369, 3) := dk_182 1 113 (dk_at dksX6_simplify_1 17 rfl rfl)
theorem dX6_simplify_42 : decode cX6_simplify 42 = .ok (.iaload, 1) := dk_46 (dk_at dksX6_simplify_1 20 rfl rfl)
theorem dX6_simplify_43 : decode cX6_simplify 43 = .ok (.ifCond .ge 68, 3) := dk_156 0 68 (dk_at dksX6_simplify_1 21 rfl rfl)
theorem dX6_simplify_46 : decode cX6_simplify 46 = .ok (.aload_n 0, 1) := dk_42 (dk_at dksX6_simplify_2 0 rfl rfl)
theorem dX6_simplify_47 : decode cX6_simplify 47 = .ok (.invokevirtual 369, 3) := dk_182 1 113 (dk_at dksX6_simplify_2 1 rfl rfl)
theorem dX6_simplify_50 : decode cX6_simplify 50 = .ok (.istore_n 1, 1) := dk_60 (dk_at dksX6_simplify_2 4 rfl rfl)
theorem dX6_simplify_51 : decode cX6_simplify 51 = .ok (.aload_n 0, 1) := dk_42 (dk_at dksX6_simplify_2 5 rfl rfl)
theorem dX6_simplify_52 : decode cX6_simplify 52 = .ok (.invokevirtual 372, 3) := dk_182 1 116 (dk_at dksX6_simplify_2 6 rfl rfl)
theorem dX6_simplify_55 : decode cX6_simplify 55 = .ok (.istore_n 2, 1) := dk_61 (dk_at dksX6_simplify_2 9 rfl rfl)
theorem dX6_simplify_56 : decode cX6_simplify 56 = .ok (.aload_n 0, 1) := dk_42 (dk_at dksX6_simplify_2 10 rfl rfl)
theorem dX6_simplify_57 : decode cX6_simplify 57 = .ok (.getfield 50, 3) := dk_180 0 50 (dk_at dksX6_simplify_2 11 rfl rfl)
theorem dX6_simplify_60 : decode cX6_simplify 60 = .ok (.iload_n 1, 1) := dk_27 (dk_at dksX6_simplify_2 14 rfl rfl)
theorem dX6_simplify_61 : decode cX6_simplify 61 = .ok (.iaload, 1) := dk_46 (dk_at dksX6_simplify_2 15 rfl rfl)
theorem dX6_simplify_62 : decode cX6_simplify 62 = .ok (.ineg, 1) := dk_116 (dk_at dksX6_simplify_2 16 rfl rfl)
theorem dX6_simplify_63 : decode cX6_simplify 63 = .ok (.aload_n 0, 1) := dk_42 (dk_at dksX6_simplify_2 17 rfl rfl)
theorem dX6_simplify_64 : decode cX6_simplify 64 = .ok (.getfield 50, 3) := dk_180 0 50 (dk_at dksX6_simplify_2 18 rfl rfl)
theorem dX6_simplify_67 : decode cX6_simplify 67 = .ok (.iload_n 2, 1) := dk_28 (dk_at dksX6_simplify_2 21 rfl rfl)
theorem dX6_simplify_68 : decode cX6_simplify 68 = .ok (.iaload, 1) := dk_46 (dk_at dksX6_simplify_2 22 rfl rfl)
theorem dX6_simplify_69 : decode cX6_simplify 69 = .ok (.invokestatic 130, 3) := dk_184 0 130 (dk_at dksX6_simplify_3 0 rfl rfl)
theorem dX6_simplify_72 : decode cX6_simplify 72 = .ok (.istore_n 3, 1) := dk_62 (dk_at dksX6_simplify_3 3 rfl rfl)
theorem dX6_simplify_73 : decode cX6_simplify 73 = .ok (.aload_n 0, 1) := dk_42 (dk_at dksX6_simplify_3 4 rfl rfl)
theorem dX6_simplify_74 : decode cX6_simplify 74 = .ok (.getfield 53, 3) := dk_180 0 53 (dk_at dksX6_simplify_3 5 rfl rfl)
theorem dX6_simplify_77 : decode cX6_simplify 77 = .ok (.bipush 6, 2) := dk_16 6 (dk_at dksX6_simplify_3 8 rfl rfl)
theorem dX6_simplify_79 : decode cX6_simplify 79 = .ok (.iload_n 1, 1) := dk_27 (dk_at dksX6_simplify_3 10 rfl rfl)
theorem dX6_simplify_80 : decode cX6_simplify 80 = .ok (.imul, 1) := dk_104 (dk_at dksX6_simplify_3 11 rfl rfl)
theorem dX6_simplify_81 : decode cX6_simplify 81 = .ok (.iload_n 2, 1) := dk_28 (dk_at dksX6_simplify_3 12 rfl rfl)
theorem dX6_simplify_82 : decode cX6_simplify 82 = .ok (.iadd, 1) := dk_96 (dk_at dksX6_simplify_3 13 rfl rfl)
theorem dX6_simplify_83 : decode cX6_simplify 83 = .ok (.dup2, 1) := dk_92 (dk_at dksX6_simplify_3 14 rfl rfl)
theorem dX6_simplify_84 : decode cX6_simplify 84 = .ok (.iaload, 1) := dk_46 (dk_at dksX6_simplify_3 15 rfl rfl)
theorem dX6_simplify_85 : decode cX6_simplify 85 = .ok (.iload_n 3, 1) := dk_29 (dk_at dksX6_simplify_3 16 rfl rfl)
theorem dX6_simplify_86 : decode cX6_simplify 86 = .ok (.iadd, 1) := dk_96 (dk_at dksX6_simplify_3 17 rfl rfl)
theorem dX6_simplify_87 : decode cX6_simplify 87 = .ok (.iastore, 1) := dk_79 (dk_at dksX6_simplify_3 18 rfl rfl)
theorem dX6_simplify_88 : decode cX6_simplify 88 = .ok (.aload_n 0, 1) := dk_42 (dk_at dksX6_simplify_3 19 rfl rfl)
theorem dX6_simplify_89 : decode cX6_simplify 89 = .ok (.getfield 50, 3) := dk_180 0 50 (dk_at dksX6_simplify_3 20 rfl rfl)
theorem dX6_simplify_92 : decode cX6_simplify 92 = .ok (.iload_n 1, 1) := dk_27 (dk_at dksX6_simplify_3 23 rfl rfl)
theorem dX6_simplify_93 : decode cX6_simplify 93 = .ok (.dup2, 1) := dk_92 (dk_at dksX6_simplify_4 0 rfl rfl)
theorem dX6_simplify_94 : decode cX6_simplify 94 = .ok (.iaload, 1) := dk_46 (dk_at dksX6_simplify_4 1 rfl rfl)
theorem dX6_simplify_95 : decode cX6_simplify 95 = .ok (.iload_n 3, 1) := dk_29 (dk_at dksX6_simplify_4 2 rfl rfl)
theorem dX6_simplify_96 : decode cX6_simplify 96 = .ok (.iadd, 1) := dk_96 (dk_at dksX6_simplify_4 3 rfl rfl)
theorem dX6_simplify_97 : decode cX6_simplify 97 = .ok (.iastore, 1) := dk_79 (dk_at dksX6_simplify_4 4 rfl rfl)
theorem dX6_simplify_98 : decode cX6_simplify 98 = .ok (.aload_n 0, 1) := dk_42 (dk_at dksX6_simplify_4 5 rfl rfl)
theorem dX6_simplify_99 : decode cX6_simplify 99 = .ok (.getfield 50, 3) := dk_180 0 50 (dk_at dksX6_simplify_4 6 rfl rfl)
theorem dX6_simplify_102 : decode cX6_simplify 102 = .ok (.iload_n 2, 1) := dk_28 (dk_at dksX6_simplify_4 9 rfl rfl)
theorem dX6_simplify_103 : decode cX6_simplify 103 = .ok (.dup2, 1) := dk_92 (dk_at dksX6_simplify_4 10 rfl rfl)
theorem dX6_simplify_104 : decode cX6_simplify 104 = .ok (.iaload, 1) := dk_46 (dk_at dksX6_simplify_4 11 rfl rfl)
theorem dX6_simplify_105 : decode cX6_simplify 105 = .ok (.iload_n 3, 1) := dk_29 (dk_at dksX6_simplify_4 12 rfl rfl)
theorem dX6_simplify_106 : decode cX6_simplify 106 = .ok (.isub, 1) := dk_100 (dk_at dksX6_simplify_4 13 rfl rfl)
theorem dX6_simplify_107 : decode cX6_simplify 107 = .ok (.iastore, 1) := dk_79 (dk_at dksX6_simplify_4 14 rfl rfl)
theorem dX6_simplify_108 : decode cX6_simplify 108 = .ok (.goto (-83), 3) := dk_167 255 173 (dk_at dksX6_simplify_4 15 rfl rfl)
theorem dX6_simplify_111 : decode cX6_simplify 111 = .ok (.iconst 0, 1) := dk_3 (dk_at dksX6_simplify_4 18 rfl rfl)
theorem dX6_simplify_112 : decode cX6_simplify 112 = .ok (.istore_n 1, 1) := dk_60 (dk_at dksX6_simplify_4 19 rfl rfl)
theorem dX6_simplify_113 : decode cX6_simplify 113 = .ok (.iload_n 1, 1) := dk_27 (dk_at dksX6_simplify_4 20 rfl rfl)
theorem dX6_simplify_114 : decode cX6_simplify 114 = .ok (.bipush 36, 2) := dk_16 36 (dk_at dksX6_simplify_4 21 rfl rfl)
theorem dX6_simplify_116 : decode cX6_simplify 116 = .ok (.if_icmp .ge 28, 3) := dk_162 0 28 (dk_at dksX6_simplify_5 0 rfl rfl)
theorem dX6_simplify_119 : decode cX6_simplify 119 = .ok (.aload_n 0, 1) := dk_42 (dk_at dksX6_simplify_5 3 rfl rfl)
theorem dX6_simplify_120 : decode cX6_simplify 120 = .ok (.getfield 53, 3) := dk_180 0 53 (dk_at dksX6_simplify_5 4 rfl rfl)
theorem dX6_simplify_123 : decode cX6_simplify 123 = .ok (.iload_n 1, 1) := dk_27 (dk_at dksX6_simplify_5 7 rfl rfl)
theorem dX6_simplify_124 : decode cX6_simplify 124 = .ok (.iaload, 1) := dk_46 (dk_at dksX6_simplify_5 8 rfl rfl)
theorem dX6_simplify_125 : decode cX6_simplify 125 = .ok (.ldc_w 315, 3) := dk_19 1 59 (dk_at dksX6_simplify_5 9 rfl rfl)
theorem dX6_simplify_128 : decode cX6_simplify 128 = .ok (.if_icmp .le 10, 3) := dk_164 0 10 (dk_at dksX6_simplify_5 12 rfl rfl)
theorem dX6_simplify_131 : decode cX6_simplify 131 = .ok (.aload_n 0, 1) := dk_42 (dk_at dksX6_simplify_5 15 rfl rfl)
theorem dX6_simplify_132 : decode cX6_simplify 132 = .ok (.bipush 7, 2) := dk_16 7 (dk_at dksX6_simplify_5 16 rfl rfl)
theorem dX6_simplify_134 : decode cX6_simplify 134 = .ok (.invokevirtual 75, 3) := dk_182 0 75 (dk_at dksX6_simplify_5 18 rfl rfl)
theorem dX6_simplify_137 : decode cX6_simplify 137 = .ok (.ireturn, 1) := dk_172 (dk_at dksX6_simplify_5 21 rfl rfl)
theorem dX6_simplify_138 : decode cX6_simplify 138 = .ok (.iinc 1 1, 3) := dk_132 1 1 (dk_at dksX6_simplify_6 0 rfl rfl)
theorem dX6_simplify_141 : decode cX6_simplify 141 = .ok (.goto (-28), 3) := dk_167 255 228 (dk_at dksX6_simplify_6 3 rfl rfl)
theorem dX6_simplify_144 : decode cX6_simplify 144 = .ok (.iconst 0, 1) := dk_3 (dk_at dksX6_simplify_6 6 rfl rfl)
theorem dX6_simplify_145 : decode cX6_simplify 145 = .ok (.istore_n 1, 1) := dk_60 (dk_at dksX6_simplify_6 7 rfl rfl)
theorem dX6_simplify_146 : decode cX6_simplify 146 = .ok (.iload_n 1, 1) := dk_27 (dk_at dksX6_simplify_6 8 rfl rfl)
theorem dX6_simplify_147 : decode cX6_simplify 147 = .ok (.bipush 36, 2) := dk_16 36 (dk_at dksX6_simplify_6 9 rfl rfl)
theorem dX6_simplify_149 : decode cX6_simplify 149 = .ok (.if_icmp .ge 24, 3) := dk_162 0 24 (dk_at dksX6_simplify_6 11 rfl rfl)
theorem dX6_simplify_152 : decode cX6_simplify 152 = .ok (.aload_n 0, 1) := dk_42 (dk_at dksX6_simplify_6 14 rfl rfl)
theorem dX6_simplify_153 : decode cX6_simplify 153 = .ok (.getfield 7, 3) := dk_180 0 7 (dk_at dksX6_simplify_6 15 rfl rfl)
theorem dX6_simplify_156 : decode cX6_simplify 156 = .ok (.bipush 92, 2) := dk_16 92 (dk_at dksX6_simplify_6 18 rfl rfl)
theorem dX6_simplify_158 : decode cX6_simplify 158 = .ok (.iload_n 1, 1) := dk_27 (dk_at dksX6_simplify_6 20 rfl rfl)
theorem dX6_simplify_159 : decode cX6_simplify 159 = .ok (.iadd, 1) := dk_96 (dk_at dksX6_simplify_6 21 rfl rfl)
theorem dX6_simplify_160 : decode cX6_simplify 160 = .ok (.aload_n 0, 1) := dk_42 (dk_at dksX6_simplify_6 22 rfl rfl)
theorem dX6_simplify_161 : decode cX6_simplify 161 = .ok (.getfield 53, 3) := dk_180 0 53 (dk_at dksX6_simplify_7 0 rfl rfl)
theorem dX6_simplify_164 : decode cX6_simplify 164 = .ok (.iload_n 1, 1) := dk_27 (dk_at dksX6_simplify_7 3 rfl rfl)
theorem dX6_simplify_165 : decode cX6_simplify 165 = .ok (.iaload, 1) := dk_46 (dk_at dksX6_simplify_7 4 rfl rfl)
theorem dX6_simplify_166 : decode cX6_simplify 166 = .ok (.iastore, 1) := dk_79 (dk_at dksX6_simplify_7 5 rfl rfl)
theorem dX6_simplify_167 : decode cX6_simplify 167 = .ok (.iinc 1 1, 3) := dk_132 1 1 (dk_at dksX6_simplify_7 6 rfl rfl)
theorem dX6_simplify_170 : decode cX6_simplify 170 = .ok (.goto (-24), 3) := dk_167 255 232 (dk_at dksX6_simplify_7 9 rfl rfl)
theorem dX6_simplify_173 : decode cX6_simplify 173 = .ok (.aload_n 0, 1) := dk_42 (dk_at dksX6_simplify_7 12 rfl rfl)
theorem dX6_simplify_174 : decode cX6_simplify 174 = .ok (.aload_n 0, 1) := dk_42 (dk_at dksX6_simplify_7 13 rfl rfl)
theorem dX6_simplify_175 : decode cX6_simplify 175 = .ok (.invokevirtual 363, 3) := dk_182 1 107 (dk_at dksX6_simplify_7 14 rfl rfl)
theorem dX6_simplify_178 : decode cX6_simplify 178 = .ok (.invokevirtual 79, 3) := dk_182 0 79 (dk_at dksX6_simplify_7 17 rfl rfl)
theorem dX6_simplify_181 : decode cX6_simplify 181 = .ok (.ireturn, 1) := dk_172 (dk_at dksX6_simplify_7 20 rfl rfl)
abbrev cX6_chain : ByteArray := prog_16_method_118_code
def yX6_chain : MethodName := ⟨RX6, "chain", "(I)I"⟩
def dkwX6_chain_4 : List UInt8 := [132, 4, 1, 167, 255, 190, 167, 255, 177, 42, 28, 4, 27, 120, 2, 130, 126, 182, 0, 79, 172]
abbrev dktX6_chain_4 : List UInt8 := dkwX6_chain_4 ++ []
def dkwX6_chain_3 : List UInt8 := [21, 4, 21, 5, 184, 1, 56, 46, 158, 0, 10, 28, 4, 21, 5, 120, 128, 61, 132, 5, 1, 167, 255, 210]
abbrev dktX6_chain_3 : List UInt8 := dkwX6_chain_3 ++ dktX6_chain_4
def dkwX6_chain_2 : List UInt8 := [42, 180, 0, 7, 3, 46, 162, 0, 41, 42, 28, 21, 4, 182, 1, 14, 153, 0, 25, 42, 180, 0, 7]
abbrev dktX6_chain_2 : List UInt8 := dkwX6_chain_2 ++ dktX6_chain_3
def dkwX6_chain_1 : List UInt8 := [159, 0, 80, 28, 62, 3, 54, 4, 21, 4, 42, 180, 0, 7, 3, 46, 162, 0, 61, 3, 54, 5, 21, 5]
abbrev dktX6_chain_1 : List UInt8 := dkwX6_chain_1 ++ dktX6_chain_2
def dkwX6_chain_0 : List UInt8 := [42, 27, 182, 0, 248, 154, 0, 9, 42, 4, 182, 0, 75, 172, 4, 27, 120, 61, 3, 62, 28, 29]
abbrev dktX6_chain_0 : List UInt8 := dkwX6_chain_0 ++ dktX6_chain_1
theorem dksX6_chain_0 : cX6_chain.data.toList.drop 0 = dktX6_chain_0 := by decide +kernel
theorem dksX6_chain_1 : cX6_chain.data.toList.drop 22 = dktX6_chain_1 := dk_seg dksX6_chain_0 22 rfl rfl
theorem dksX6_chain_2 : cX6_chain.data.toList.drop 46 = dktX6_chain_2 := dk_seg dksX6_chain_1 24 rfl rfl
theorem dksX6_chain_3 : cX6_chain.data.toList.drop 69 = dktX6_chain_3 := dk_seg dksX6_chain_2 23 rfl rfl
theorem dksX6_chain_4 : cX6_chain.data.toList.drop 93 = dktX6_chain_4 := dk_seg dksX6_chain_3 24 rfl rfl
theorem dX6_chain_0 : decode cX6_chain 0 = .ok (.aload_n 0, 1) := dk_42 (dk_at dksX6_chain_0 0 rfl rfl)
theorem dX6_chain_1 : decode cX6_chain 1 = .ok (.iload_n 1, 1) := dk_27 (dk_at dksX6_chain_0 1 rfl rfl)
theorem dX6_chain_2 : decode cX6_chain 2 = .ok (.invokevirtual 248, 3) := dk_182 0 248 (dk_at dksX6_chain_0 2 rfl rfl)
theorem dX6_chain_5 : decode cX6_chain 5 = .ok (.ifCond .ne 9, 3) := dk_154 0 9 (dk_at dksX6_chain_0 5 rfl rfl)
theorem dX6_chain_8 : decode cX6_chain 8 = .ok (.aload_n 0, 1) := dk_42 (dk_at dksX6_chain_0 8 rfl rfl)
theorem dX6_chain_9 : decode cX6_chain 9 = .ok (.iconst 1, 1) := dk_4 (dk_at dksX6_chain_0 9 rfl rfl)
theorem dX6_chain_10 : decode cX6_chain 10 = .ok (.invokevirtual 75, 3) := dk_182 0 75 (dk_at dksX6_chain_0 10 rfl rfl)
theorem dX6_chain_13 : decode cX6_chain 13 = .ok (.ireturn, 1) := dk_172 (dk_at dksX6_chain_0 13 rfl rfl)
theorem dX6_chain_14 : decode cX6_chain 14 = .ok (.iconst 1, 1) := dk_4 (dk_at dksX6_chain_0 14 rfl rfl)
theorem dX6_chain_15 : decode cX6_chain 15 = .ok (.iload_n 1, 1) := dk_27 (dk_at dksX6_chain_0 15 rfl rfl)
theorem dX6_chain_16 : decode cX6_chain 16 = .ok (.ishl, 1) := dk_120 (dk_at dksX6_chain_0 16 rfl rfl)
theorem dX6_chain_17 : decode cX6_chain 17 = .ok (.istore_n 2, 1) := dk_61 (dk_at dksX6_chain_0 17 rfl rfl)
theorem dX6_chain_18 : decode cX6_chain 18 = .ok (.iconst 0, 1) := dk_3 (dk_at dksX6_chain_0 18 rfl rfl)
theorem dX6_chain_19 : decode cX6_chain 19 = .ok (.istore_n 3, 1) := dk_62 (dk_at dksX6_chain_0 19 rfl rfl)
theorem dX6_chain_20 : decode cX6_chain 20 = .ok (.iload_n 2, 1) := dk_28 (dk_at dksX6_chain_0 20 rfl rfl)
theorem dX6_chain_21 : decode cX6_chain 21 = .ok (.iload_n 3, 1) := dk_29 (dk_at dksX6_chain_0 21 rfl rfl)
theorem dX6_chain_22 : decode cX6_chain 22 = .ok (.if_icmp .eq 80, 3) := dk_159 0 80 (dk_at dksX6_chain_1 0 rfl rfl)
theorem dX6_chain_25 : decode cX6_chain 25 = .ok (.iload_n 2, 1) := dk_28 (dk_at dksX6_chain_1 3 rfl rfl)
theorem dX6_chain_26 : decode cX6_chain 26 = .ok (.istore_n 3, 1) := dk_62 (dk_at dksX6_chain_1 4 rfl rfl)
theorem dX6_chain_27 : decode cX6_chain 27 = .ok (.iconst 0, 1) := dk_3 (dk_at dksX6_chain_1 5 rfl rfl)
theorem dX6_chain_28 : decode cX6_chain 28 = .ok (.istore 4, 2) := dk_54 4 (dk_at dksX6_chain_1 6 rfl rfl)
theorem dX6_chain_30 : decode cX6_chain 30 = .ok (.iload 4, 2) := dk_21 4 (dk_at dksX6_chain_1 8 rfl rfl)
theorem dX6_chain_32 : decode cX6_chain 32 = .ok (.aload_n 0, 1) := dk_42 (dk_at dksX6_chain_1 10 rfl rfl)
theorem dX6_chain_33 : decode cX6_chain 33 = .ok (.getfield 7, 3) := dk_180 0 7 (dk_at dksX6_chain_1 11 rfl rfl)
theorem dX6_chain_36 : decode cX6_chain 36 = .ok (.iconst 0, 1) := dk_3 (dk_at dksX6_chain_1 14 rfl rfl)
theorem dX6_chain_37 : decode cX6_chain 37 = .ok (.iaload, 1) := dk_46 (dk_at dksX6_chain_1 15 rfl rfl)
theorem dX6_chain_38 : decode cX6_chain 38 = .ok (.if_icmp .ge 61, 3) := dk_162 0 61 (dk_at dksX6_chain_1 16 rfl rfl)
theorem dX6_chain_41 : decode cX6_chain 41 = .ok (.iconst 0, 1) := dk_3 (dk_at dksX6_chain_1 19 rfl rfl)
theorem dX6_chain_42 : decode cX6_chain 42 = .ok (.istore 5, 2) := dk_54 5 (dk_at dksX6_chain_1 20 rfl rfl)
theorem dX6_chain_44 : decode cX6_chain 44 = .ok (.iload 5, 2) := dk_21 5 (dk_at dksX6_chain_1 22 rfl rfl)
theorem dX6_chain_46 : decode cX6_chain 46 = .ok (.aload_n 0, 1) := dk_42 (dk_at dksX6_chain_2 0 rfl rfl)
theorem dX6_chain_47 : decode cX6_chain 47 = .ok (.getfield 7, 3) := dk_180 0 7 (dk_at dksX6_chain_2 1 rfl rfl)
theorem dX6_chain_50 : decode cX6_chain 50 = .ok (.iconst 0, 1) := dk_3 (dk_at dksX6_chain_2 4 rfl rfl)
theorem dX6_chain_51 : decode cX6_chain 51 = .ok (.iaload, 1) := dk_46 (dk_at dksX6_chain_2 5 rfl rfl)
theorem dX6_chain_52 : decode cX6_chain 52 = .ok (.if_icmp .ge 41, 3) := dk_162 0 41 (dk_at dksX6_chain_2 6 rfl rfl)
theorem dX6_chain_55 : decode cX6_chain 55 = .ok (.aload_n 0, 1) := dk_42 (dk_at dksX6_chain_2 9 rfl rfl)
theorem dX6_chain_56 : decode cX6_chain 56 = .ok (.iload_n 2, 1) := dk_28 (dk_at dksX6_chain_2 10 rfl rfl)
theorem dX6_chain_57 : decode cX6_chain 57 = .ok (.iload 4, 2) := dk_21 4 (dk_at dksX6_chain_2 11 rfl rfl)
theorem dX6_chain_59 : decode cX6_chain 59 = .ok (.invokevirtual 270, 3) := dk_182 1 14 (dk_at dksX6_chain_2 13 rfl rfl)
theorem dX6_chain_62 : decode cX6_chain 62 = .ok (.ifCond .eq 25, 3) := dk_153 0 25 (dk_at dksX6_chain_2 16 rfl rfl)
theorem dX6_chain_65 : decode cX6_chain 65 = .ok (.aload_n 0, 1) := dk_42 (dk_at dksX6_chain_2 19 rfl rfl)
theorem dX6_chain_66 : decode cX6_chain 66 = .ok (.getfield 7, 3) := dk_180 0 7 (dk_at dksX6_chain_2 20 rfl rfl)
theorem dX6_chain_69 : decode cX6_chain 69 = .ok (.iload 4, 2) := dk_21 4 (dk_at dksX6_chain_3 0 rfl rfl)
theorem dX6_chain_71 : decode cX6_chain 71 = .ok (.iload 5, 2) := dk_21 5 (dk_at dksX6_chain_3 2 rfl rfl)
theorem dX6_chain_73 : decode cX6_chain 73 = .ok (.invokestatic 312, 3) := dk_184 1 56 (dk_at dksX6_chain_3 4 rfl rfl)
theorem dX6_chain_76 : decode cX6_chain 76 = .ok (.iaload, 1) := dk_46 (dk_at dksX6_chain_3 7 rfl rfl)
theorem dX6_chain_77 : decode cX6_chain 77 = .ok (.ifCond .le 10, 3) := dk_158 0 10 (dk_at dksX6_chain_3 8 rfl rfl)
theorem dX6_chain_80 : decode cX6_chain 80 = .ok (.iload_n 2, 1) := dk_28 (dk_at dksX6_chain_3 11 rfl rfl)
theorem dX6_chain_81 : decode cX6_chain 81 = .ok (.iconst 1, 1) := dk_4 (dk_at dksX6_chain_3 12 rfl rfl)
theorem dX6_chain_82 : decode cX6_chain 82 = .ok (.iload 5, 2) := dk_21 5 (dk_at dksX6_chain_3 13 rfl rfl)
theorem dX6_chain_84 : decode cX6_chain 84 = .ok (.ishl, 1) := dk_120 (dk_at dksX6_chain_3 15 rfl rfl)
theorem dX6_chain_85 : decode cX6_chain 85 = .ok (.ior, 1) := dk_128 (dk_at dksX6_chain_3 16 rfl rfl)
theorem dX6_chain_86 : decode cX6_chain 86 = .ok (.istore_n 2, 1) := dk_61 (dk_at dksX6_chain_3 17 rfl rfl)
theorem dX6_chain_87 : decode cX6_chain 87 = .ok (.iinc 5 1, 3) := dk_132 5 1 (dk_at dksX6_chain_3 18 rfl rfl)
theorem dX6_chain_90 : decode cX6_chain 90 = .ok (.goto (-46), 3) := dk_167 255 210 (dk_at dksX6_chain_3 21 rfl rfl)
theorem dX6_chain_93 : decode cX6_chain 93 = .ok (.iinc 4 1, 3) := dk_132 4 1 (dk_at dksX6_chain_4 0 rfl rfl)
theorem dX6_chain_96 : decode cX6_chain 96 = .ok (.goto (-66), 3) := dk_167 255 190 (dk_at dksX6_chain_4 3 rfl rfl)
theorem dX6_chain_99 : decode cX6_chain 99 = .ok (.goto (-79), 3) := dk_167 255 177 (dk_at dksX6_chain_4 6 rfl rfl)
theorem dX6_chain_102 : decode cX6_chain 102 = .ok (.aload_n 0, 1) := dk_42 (dk_at dksX6_chain_4 9 rfl rfl)
theorem dX6_chain_103 : decode cX6_chain 103 = .ok (.iload_n 2, 1) := dk_28 (dk_at dksX6_chain_4 10 rfl rfl)
theorem dX6_chain_104 : decode cX6_chain 104 = .ok (.iconst 1, 1) := dk_4 (dk_at dksX6_chain_4 11 rfl rfl)
theorem dX6_chain_105 : decode cX6_chain 105 = .ok (.iload_n 1, 1) := dk_27 (dk_at dksX6_chain_4 12 rfl rfl)
theorem dX6_chain_106 : decode cX6_chain 106 = .ok (.ishl, 1) := dk_120 (dk_at dksX6_chain_4 13 rfl rfl)
theorem dX6_chain_107 : decode cX6_chain 107 = .ok (.iconst (-1), 1) := dk_2 (dk_at dksX6_chain_4 14 rfl rfl)
theorem dX6_chain_108 : decode cX6_chain 108 = .ok (.ixor, 1) := dk_130 (dk_at dksX6_chain_4 15 rfl rfl)
theorem dX6_chain_109 : decode cX6_chain 109 = .ok (.iand, 1) := dk_126 (dk_at dksX6_chain_4 16 rfl rfl)
theorem dX6_chain_110 : decode cX6_chain 110 = .ok (.invokevirtual 79, 3) := dk_182 0 79 (dk_at dksX6_chain_4 17 rfl rfl)
theorem dX6_chain_113 : decode cX6_chain 113 = .ok (.ireturn, 1) := dk_172 (dk_at dksX6_chain_4 20 rfl rfl)
abbrev cX6_even : ByteArray := prog_16_method_121_code
def yX6_even : MethodName := ⟨RX6, "even", "(I)I"⟩
def dkwX6_even_1 : List UInt8 := [42, 4, 182, 0, 75, 172]
abbrev dktX6_even_1 : List UInt8 := dkwX6_even_1 ++ []
def dkwX6_even_0 : List UInt8 := [27, 133, 10, 20, 1, 122, 184, 1, 46, 153, 0, 15, 42, 42, 27, 182, 1, 124, 182, 1, 35, 167, 0, 8]
abbrev dktX6_even_0 : List UInt8 := dkwX6_even_0 ++ dktX6_even_1
theorem dksX6_even_0 : cX6_even.data.toList.drop 0 = dktX6_even_0 := by decide +kernel
theorem dksX6_even_1 : cX6_even.data.toList.drop 24 = dktX6_even_1 := dk_seg dksX6_even_0 24 rfl rfl
theorem dX6_even_0 : decode cX6_even 0 = .ok (.iload_n 1, 1) := dk_27 (dk_at dksX6_even_0 0 rfl rfl)
theorem dX6_even_1 : decode cX6_even 1 = .ok (.i2l, 1) := dk_133 (dk_at dksX6_even_0 1 rfl rfl)
theorem dX6_even_2 : decode cX6_even 2 = .ok (.lconst 1, 1) := dk_10 (dk_at dksX6_even_0 2 rfl rfl)
theorem dX6_even_3 : decode cX6_even 3 = .ok (.ldc2_w 378, 3) := dk_20 1 122 (dk_at dksX6_even_0 3 rfl rfl)
theorem dX6_even_6 : decode cX6_even 6 = .ok (.invokestatic 302, 3) := dk_184 1 46 (dk_at dksX6_even_0 6 rfl rfl)
theorem dX6_even_9 : decode cX6_even 9 = .ok (.ifCond .eq 15, 3) := dk_153 0 15 (dk_at dksX6_even_0 9 rfl rfl)
theorem dX6_even_12 : decode cX6_even 12 = .ok (.aload_n 0, 1) := dk_42 (dk_at dksX6_even_0 12 rfl rfl)
theorem dX6_even_13 : decode cX6_even 13 = .ok (.aload_n 0, 1) := dk_42 (dk_at dksX6_even_0 13 rfl rfl)
theorem dX6_even_14 : decode cX6_even 14 = .ok (.iload_n 1, 1) := dk_27 (dk_at dksX6_even_0 14 rfl rfl)
theorem dX6_even_15 : decode cX6_even 15 = .ok (.invokevirtual 380, 3) := dk_182 1 124 (dk_at dksX6_even_0 15 rfl rfl)
theorem dX6_even_18 : decode cX6_even 18 = .ok (.invokevirtual 291, 3) := dk_182 1 35 (dk_at dksX6_even_0 18 rfl rfl)
theorem dX6_even_21 : decode cX6_even 21 = .ok (.goto 8, 3) := dk_167 0 8 (dk_at dksX6_even_0 21 rfl rfl)
theorem dX6_even_24 : decode cX6_even 24 = .ok (.aload_n 0, 1) := dk_42 (dk_at dksX6_even_1 0 rfl rfl)
theorem dX6_even_25 : decode cX6_even 25 = .ok (.iconst 1, 1) := dk_4 (dk_at dksX6_even_1 1 rfl rfl)
theorem dX6_even_26 : decode cX6_even 26 = .ok (.invokevirtual 75, 3) := dk_182 0 75 (dk_at dksX6_even_1 2 rfl rfl)
theorem dX6_even_29 : decode cX6_even 29 = .ok (.ireturn, 1) := dk_172 (dk_at dksX6_even_1 5 rfl rfl)
abbrev cX6_evenIn : ByteArray := prog_16_method_120_code
def yX6_evenIn : MethodName := ⟨RX6, "evenIn", "(I)I"⟩
def dkwX6_evenIn_3 : List UInt8 := [132, 4, 1, 167, 255, 196, 29, 28, 160, 0, 5, 28, 172, 132, 2, 1, 167, 255, 172, 2, 172]
abbrev dktX6_evenIn_3 : List UInt8 := dkwX6_evenIn_3 ++ []
def dkwX6_evenIn_2 : List UInt8 := [21, 4, 182, 1, 119, 54, 5, 21, 5, 2, 160, 0, 7, 2, 167, 0, 7, 29, 21, 5, 96, 62]
abbrev dktX6_evenIn_2 : List UInt8 := dkwX6_evenIn_2 ++ dktX6_evenIn_3
def dkwX6_evenIn_1 : List UInt8 := [29, 2, 159, 0, 50, 42, 42, 182, 1, 8, 21, 4, 182, 1, 14, 154, 0, 6, 167, 0, 28, 42, 27, 28]
abbrev dktX6_evenIn_1 : List UInt8 := dkwX6_evenIn_1 ++ dktX6_evenIn_2
def dkwX6_evenIn_0 : List UInt8 := [3, 61, 28, 16, 100, 162, 0, 84, 3, 62, 3, 54, 4, 21, 4, 42, 180, 0, 7, 3, 46, 162, 0, 55]
abbrev dktX6_evenIn_0 : List UInt8 := dkwX6_evenIn_0 ++ dktX6_evenIn_1
theorem dksX6_evenIn_0 : cX6_evenIn.data.toList.drop 0 = dktX6_evenIn_0 := by decide +kernel
theorem dksX6_evenIn_1 : cX6_evenIn.data.toList.drop 24 = dktX6_evenIn_1 := dk_seg dksX6_evenIn_0 24 rfl rfl
theorem dksX6_evenIn_2 : cX6_evenIn.data.toList.drop 48 = dktX6_evenIn_2 := dk_seg dksX6_evenIn_1 24 rfl rfl
theorem dksX6_evenIn_3 : cX6_evenIn.data.toList.drop 70 = dktX6_evenIn_3 := dk_seg dksX6_evenIn_2 22 rfl rfl
theorem dX6_evenIn_0 : decode cX6_evenIn 0 = .ok (.iconst 0, 1) := dk_3 (dk_at dksX6_evenIn_0 0 rfl rfl)
theorem dX6_evenIn_1 : decode cX6_evenIn 1 = .ok (.istore_n 2, 1) := dk_61 (dk_at dksX6_evenIn_0 1 rfl rfl)
theorem dX6_evenIn_2 : decode cX6_evenIn 2 = .ok (.iload_n 2, 1) := dk_28 (dk_at dksX6_evenIn_0 2 rfl rfl)
theorem dX6_evenIn_3 : decode cX6_evenIn 3 = .ok (.bipush 100, 2) := dk_16 100 (dk_at dksX6_evenIn_0 3 rfl rfl)
theorem dX6_evenIn_5 : decode cX6_evenIn 5 = .ok (.if_icmp .ge 84, 3) := dk_162 0 84 (dk_at dksX6_evenIn_0 5 rfl rfl)
theorem dX6_evenIn_8 : decode cX6_evenIn 8 = .ok (.iconst 0, 1) := dk_3 (dk_at dksX6_evenIn_0 8 rfl rfl)
theorem dX6_evenIn_9 : decode cX6_evenIn 9 = .ok (.istore_n 3, 1) := dk_62 (dk_at dksX6_evenIn_0 9 rfl rfl)
theorem dX6_evenIn_10 : decode cX6_evenIn 10 = .ok (.iconst 0, 1) := dk_3 (dk_at dksX6_evenIn_0 10 rfl rfl)
theorem dX6_evenIn_11 : decode cX6_evenIn 11 = .ok (.istore 4, 2) := dk_54 4 (dk_at dksX6_evenIn_0 11 rfl rfl)
theorem dX6_evenIn_13 : decode cX6_evenIn 13 = .ok (.iload 4, 2) := dk_21 4 (dk_at dksX6_evenIn_0 13 rfl rfl)
theorem dX6_evenIn_15 : decode cX6_evenIn 15 = .ok (.aload_n 0, 1) := dk_42 (dk_at dksX6_evenIn_0 15 rfl rfl)
theorem dX6_evenIn_16 : decode cX6_evenIn 16 = .ok (.getfield 7, 3) := dk_180 0 7 (dk_at dksX6_evenIn_0 16 rfl rfl)
theorem dX6_evenIn_19 : decode cX6_evenIn 19 = .ok (.iconst 0, 1) := dk_3 (dk_at dksX6_evenIn_0 19 rfl rfl)
theorem dX6_evenIn_20 : decode cX6_evenIn 20 = .ok (.iaload, 1) := dk_46 (dk_at dksX6_evenIn_0 20 rfl rfl)
theorem dX6_evenIn_21 : decode cX6_evenIn 21 = .ok (.if_icmp .ge 55, 3) := dk_162 0 55 (dk_at dksX6_evenIn_0 21 rfl rfl)
theorem dX6_evenIn_24 : decode cX6_evenIn 24 = .ok (.iload_n 3, 1) := dk_29 (dk_at dksX6_evenIn_1 0 rfl rfl)
theorem dX6_evenIn_25 : decode cX6_evenIn 25 = .ok (.iconst (-1), 1) := dk_2 (dk_at dksX6_evenIn_1 1 rfl rfl)
theorem dX6_evenIn_26 : decode cX6_evenIn 26 = .ok (.if_icmp .eq 50, 3) := dk_159 0 50 (dk_at dksX6_evenIn_1 2 rfl rfl)
theorem dX6_evenIn_29 : decode cX6_evenIn 29 = .ok (.aload_n 0, 1) := dk_42 (dk_at dksX6_evenIn_1 5 rfl rfl)
theorem dX6_evenIn_30 : decode cX6_evenIn 30 = .ok (.aload_n 0, 1) := dk_42 (dk_at dksX6_evenIn_1 6 rfl rfl)
theorem dX6_evenIn_31 : decode cX6_evenIn 31 = .ok (.invokevirtual 264, 3) := dk_182 1 8 (dk_at dksX6_evenIn_1 7 rfl rfl)
theorem dX6_evenIn_34 : decode cX6_evenIn 34 = .ok (.iload 4, 2) := dk_21 4 (dk_at dksX6_evenIn_1 10 rfl rfl)
theorem dX6_evenIn_36 : decode cX6_evenIn 36 = .ok (.invokevirtual 270, 3) := dk_182 1 14 (dk_at dksX6_evenIn_1 12 rfl rfl)
theorem dX6_evenIn_39 : decode cX6_evenIn 39 = .ok (.ifCond .ne 6, 3) := dk_154 0 6 (dk_at dksX6_evenIn_1 15 rfl rfl)
theorem dX6_evenIn_42 : decode cX6_evenIn 42 = .ok (.goto 28, 3) := dk_167 0 28 (dk_at dksX6_evenIn_1 18 rfl rfl)
theorem dX6_evenIn_45 : decode cX6_evenIn 45 = .ok (.aload_n 0, 1) := dk_42 (dk_at dksX6_evenIn_1 21 rfl rfl)
theorem dX6_evenIn_46 : decode cX6_evenIn 46 = .ok (.iload_n 1, 1) := dk_27 (dk_at dksX6_evenIn_1 22 rfl rfl)
theorem dX6_evenIn_47 : decode cX6_evenIn 47 = .ok (.iload_n 2, 1) := dk_28 (dk_at dksX6_evenIn_1 23 rfl rfl)
theorem dX6_evenIn_48 : decode cX6_evenIn 48 = .ok (.iload 4, 2) := dk_21 4 (dk_at dksX6_evenIn_2 0 rfl rfl)
theorem dX6_evenIn_50 : decode cX6_evenIn 50 = .ok (.invokevirtual 375, 3) := dk_182 1 119 (dk_at dksX6_evenIn_2 2 rfl rfl)
theorem dX6_evenIn_53 : decode cX6_evenIn 53 = .ok (.istore 5, 2) := dk_54 5 (dk_at dksX6_evenIn_2 5 rfl rfl)
theorem dX6_evenIn_55 : decode cX6_evenIn 55 = .ok (.iload 5, 2) := dk_21 5 (dk_at dksX6_evenIn_2 7 rfl rfl)
theorem dX6_evenIn_57 : decode cX6_evenIn 57 = .ok (.iconst (-1), 1) := dk_2 (dk_at dksX6_evenIn_2 9 rfl rfl)
theorem dX6_evenIn_58 : decode cX6_evenIn 58 = .ok (.if_icmp .ne 7, 3) := dk_160 0 7 (dk_at dksX6_evenIn_2 10 rfl rfl)
theorem dX6_evenIn_61 : decode cX6_evenIn 61 = .ok (.iconst (-1), 1) := dk_2 (dk_at dksX6_evenIn_2 13 rfl rfl)
theorem dX6_evenIn_62 : decode cX6_evenIn 62 = .ok (.goto 7, 3) := dk_167 0 7 (dk_at dksX6_evenIn_2 14 rfl rfl)
theorem dX6_evenIn_65 : decode cX6_evenIn 65 = .ok (.iload_n 3, 1) := dk_29 (dk_at dksX6_evenIn_2 17 rfl rfl)
theorem dX6_evenIn_66 : decode cX6_evenIn 66 = .ok (.iload 5, 2) := dk_21 5 (dk_at dksX6_evenIn_2 18 rfl rfl)
theorem dX6_evenIn_68 : decode cX6_evenIn 68 = .ok (.iadd, 1) := dk_96 (dk_at dksX6_evenIn_2 20 rfl rfl)
theorem dX6_evenIn_69 : decode cX6_evenIn 69 = .ok (.istore_n 3, 1) := dk_62 (dk_at dksX6_evenIn_2 21 rfl rfl)
theorem dX6_evenIn_70 : decode cX6_evenIn 70 = .ok (.iinc 4 1, 3) := dk_132 4 1 (dk_at dksX6_evenIn_3 0 rfl rfl)
theorem dX6_evenIn_73 : decode cX6_evenIn 73 = .ok (.goto (-60), 3) := dk_167 255 196 (dk_at dksX6_evenIn_3 3 rfl rfl)
theorem dX6_evenIn_76 : decode cX6_evenIn 76 = .ok (.iload_n 3, 1) := dk_29 (dk_at dksX6_evenIn_3 6 rfl rfl)
theorem dX6_evenIn_77 : decode cX6_evenIn 77 = .ok (.iload_n 2, 1) := dk_28 (dk_at dksX6_evenIn_3 7 rfl rfl)
theorem dX6_evenIn_78 : decode cX6_evenIn 78 = .ok (.if_icmp .ne 5, 3) := dk_160 0 5 (dk_at dksX6_evenIn_3 8 rfl rfl)
theorem dX6_evenIn_81 : decode cX6_evenIn 81 = .ok (.iload_n 2, 1) := dk_28 (dk_at dksX6_evenIn_3 11 rfl rfl)
theorem dX6_evenIn_82 : decode cX6_evenIn 82 = .ok (.ireturn, 1) := dk_172 (dk_at dksX6_evenIn_3 12 rfl rfl)
theorem dX6_evenIn_83 : decode cX6_evenIn 83 = .ok (.iinc 2 1, 3) := dk_132 2 1 (dk_at dksX6_evenIn_3 13 rfl rfl)
theorem dX6_evenIn_86 : decode cX6_evenIn 86 = .ok (.goto (-84), 3) := dk_167 255 172 (dk_at dksX6_evenIn_3 16 rfl rfl)
theorem dX6_evenIn_89 : decode cX6_evenIn 89 = .ok (.iconst (-1), 1) := dk_2 (dk_at dksX6_evenIn_3 19 rfl rfl)
theorem dX6_evenIn_90 : decode cX6_evenIn 90 = .ok (.ireturn, 1) := dk_172 (dk_at dksX6_evenIn_3 20 rfl rfl)
abbrev cX6_evenPays : ByteArray := prog_16_method_119_code
def yX6_evenPays : MethodName := ⟨RX6, "evenPays", "(III)I"⟩
def dkwX6_evenPays_2 : List UInt8 := [27, 108, 100, 21, 4, 108, 172]
abbrev dktX6_evenPays_2 : List UInt8 := dkwX6_evenPays_2 ++ []
def dkwX6_evenPays_1 : List UInt8 := [21, 5, 27, 108, 100, 21, 4, 112, 154, 0, 11, 28, 21, 5, 27, 108, 162, 0, 5, 2, 172, 28, 21, 5]
abbrev dktX6_evenPays_1 : List UInt8 := dkwX6_evenPays_1 ++ dktX6_evenPays_2
def dkwX6_evenPays_0 : List UInt8 := [42, 182, 1, 8, 184, 0, 254, 54, 4, 42, 29, 182, 1, 63, 54, 5, 21, 5, 27, 112, 154, 0, 23, 28]
abbrev dktX6_evenPays_0 : List UInt8 := dkwX6_evenPays_0 ++ dktX6_evenPays_1
theorem dksX6_evenPays_0 : cX6_evenPays.data.toList.drop 0 = dktX6_evenPays_0 := by decide +kernel
theorem dksX6_evenPays_1 : cX6_evenPays.data.toList.drop 24 = dktX6_evenPays_1 := dk_seg dksX6_evenPays_0 24 rfl rfl
theorem dksX6_evenPays_2 : cX6_evenPays.data.toList.drop 48 = dktX6_evenPays_2 := dk_seg dksX6_evenPays_1 24 rfl rfl
theorem dX6_evenPays_0 : decode cX6_evenPays 0 = .ok (.aload_n 0, 1) := dk_42 (dk_at dksX6_evenPays_0 0 rfl rfl)
theorem dX6_evenPays_1 : decode cX6_evenPays 1 = .ok (.invokevirtual 264, 3) := dk_182 1 8 (dk_at dksX6_evenPays_0 1 rfl rfl)
theorem dX6_evenPays_4 : decode cX6_evenPays 4 = .ok (.invokestatic 254, 3) := dk_184 0 254 (dk_at dksX6_evenPays_0 4 rfl rfl)
theorem dX6_evenPays_7 : decode cX6_evenPays 7 = .ok (.istore 4, 2) := dk_54 4 (dk_at dksX6_evenPays_0 7 rfl rfl)
theorem dX6_evenPays_9 : decode cX6_evenPays 9 = .ok (.aload_n 0, 1) := dk_42 (dk_at dksX6_evenPays_0 9 rfl rfl)
theorem dX6_evenPays_10 : decode cX6_evenPays 10 = .ok (.iload_n 3, 1) := dk_29 (dk_at dksX6_evenPays_0 10 rfl rfl)
theorem dX6_evenPays_11 : decode cX6_evenPays 11 = .ok (.invokevirtual 319, 3) := dk_182 1 63 (dk_at dksX6_evenPays_0 11 rfl rfl)
theorem dX6_evenPays_14 : decode cX6_evenPays 14 = .ok (.istore 5, 2) := dk_54 5 (dk_at dksX6_evenPays_0 14 rfl rfl)
theorem dX6_evenPays_16 : decode cX6_evenPays 16 = .ok (.iload 5, 2) := dk_21 5 (dk_at dksX6_evenPays_0 16 rfl rfl)
theorem dX6_evenPays_18 : decode cX6_evenPays 18 = .ok (.iload_n 1, 1) := dk_27 (dk_at dksX6_evenPays_0 18 rfl rfl)
theorem dX6_evenPays_19 : decode cX6_evenPays 19 = .ok (.irem, 1) := dk_112 (dk_at dksX6_evenPays_0 19 rfl rfl)
theorem dX6_evenPays_20 : decode cX6_evenPays 20 = .ok (.ifCond .ne 23, 3) := dk_154 0 23 (dk_at dksX6_evenPays_0 20 rfl rfl)
theorem dX6_evenPays_23 : decode cX6_evenPays 23 = .ok (.iload_n 2, 1) := dk_28 (dk_at dksX6_evenPays_0 23 rfl rfl)
theorem dX6_evenPays_24 : decode cX6_evenPays 24 = .ok (.iload 5, 2) := dk_21 5 (dk_at dksX6_evenPays_1 0 rfl rfl)
theorem dX6_evenPays_26 : decode cX6_evenPays 26 = .ok (.iload_n 1, 1) := dk_27 (dk_at dksX6_evenPays_1 2 rfl rfl)
theorem dX6_evenPays_27 : decode cX6_evenPays 27 = .ok (.idiv, 1) := dk_108 (dk_at dksX6_evenPays_1 3 rfl rfl)
theorem dX6_evenPays_28 : decode cX6_evenPays 28 = .ok (.isub, 1) := dk_100 (dk_at dksX6_evenPays_1 4 rfl rfl)
theorem dX6_evenPays_29 : decode cX6_evenPays 29 = .ok (.iload 4, 2) := dk_21 4 (dk_at dksX6_evenPays_1 5 rfl rfl)
theorem dX6_evenPays_31 : decode cX6_evenPays 31 = .ok (.irem, 1) := dk_112 (dk_at dksX6_evenPays_1 7 rfl rfl)
theorem dX6_evenPays_32 : decode cX6_evenPays 32 = .ok (.ifCond .ne 11, 3) := dk_154 0 11 (dk_at dksX6_evenPays_1 8 rfl rfl)
theorem dX6_evenPays_35 : decode cX6_evenPays 35 = .ok (.iload_n 2, 1) := dk_28 (dk_at dksX6_evenPays_1 11 rfl rfl)
theorem dX6_evenPays_36 : decode cX6_evenPays 36 = .ok (.iload 5, 2) := dk_21 5 (dk_at dksX6_evenPays_1 12 rfl rfl)
theorem dX6_evenPays_38 : decode cX6_evenPays 38 = .ok (.iload_n 1, 1) := dk_27 (dk_at dksX6_evenPays_1 14 rfl rfl)
theorem dX6_evenPays_39 : decode cX6_evenPays 39 = .ok (.idiv, 1) := dk_108 (dk_at dksX6_evenPays_1 15 rfl rfl)
theorem dX6_evenPays_40 : decode cX6_evenPays 40 = .ok (.if_icmp .ge 5, 3) := dk_162 0 5 (dk_at dksX6_evenPays_1 16 rfl rfl)
theorem dX6_evenPays_43 : decode cX6_evenPays 43 = .ok (.iconst (-1), 1) := dk_2 (dk_at dksX6_evenPays_1 19 rfl rfl)
theorem dX6_evenPays_44 : decode cX6_evenPays 44 = .ok (.ireturn, 1) := dk_172 (dk_at dksX6_evenPays_1 20 rfl rfl)
theorem dX6_evenPays_45 : decode cX6_evenPays 45 = .ok (.iload_n 2, 1) := dk_28 (dk_at dksX6_evenPays_1 21 rfl rfl)
theorem dX6_evenPays_46 : decode cX6_evenPays 46 = .ok (.iload 5, 2) := dk_21 5 (dk_at dksX6_evenPays_1 22 rfl rfl)
theorem dX6_evenPays_48 : decode cX6_evenPays 48 = .ok (.iload_n 1, 1) := dk_27 (dk_at dksX6_evenPays_2 0 rfl rfl)
theorem dX6_evenPays_49 : decode cX6_evenPays 49 = .ok (.idiv, 1) := dk_108 (dk_at dksX6_evenPays_2 1 rfl rfl)
theorem dX6_evenPays_50 : decode cX6_evenPays 50 = .ok (.isub, 1) := dk_100 (dk_at dksX6_evenPays_2 2 rfl rfl)
theorem dX6_evenPays_51 : decode cX6_evenPays 51 = .ok (.iload 4, 2) := dk_21 4 (dk_at dksX6_evenPays_2 3 rfl rfl)
theorem dX6_evenPays_53 : decode cX6_evenPays 53 = .ok (.idiv, 1) := dk_108 (dk_at dksX6_evenPays_2 5 rfl rfl)
theorem dX6_evenPays_54 : decode cX6_evenPays 54 = .ok (.ireturn, 1) := dk_172 (dk_at dksX6_evenPays_2 6 rfl rfl)
abbrev cX6_evenBy : ByteArray := prog_16_method_122_code
def yX6_evenBy : MethodName := ⟨RX6, "evenBy", "(II)I"⟩
def dkwX6_evenBy_3 : List UInt8 := [182, 0, 79, 172]
abbrev dktX6_evenBy_3 : List UInt8 := dkwX6_evenBy_3 ++ []
def dkwX6_evenBy_2 : List UInt8 := [42, 182, 1, 8, 28, 182, 1, 14, 153, 0, 13, 42, 27, 29, 28, 182, 1, 119, 167, 0, 4, 3]
abbrev dktX6_evenBy_2 : List UInt8 := dkwX6_evenBy_2 ++ dktX6_evenBy_3
def dkwX6_evenBy_1 : List UInt8 := [182, 0, 75, 172, 42, 27, 182, 1, 124, 62, 29, 2, 160, 0, 10, 42, 16, 6, 182, 0, 75, 172, 42, 42]
abbrev dktX6_evenBy_1 : List UInt8 := dkwX6_evenBy_1 ++ dktX6_evenBy_2
def dkwX6_evenBy_0 : List UInt8 := [27, 133, 10, 20, 1, 122, 184, 1, 46, 153, 0, 11, 42, 28, 182, 0, 248, 154, 0, 9, 42, 4]
abbrev dktX6_evenBy_0 : List UInt8 := dkwX6_evenBy_0 ++ dktX6_evenBy_1
theorem dksX6_evenBy_0 : cX6_evenBy.data.toList.drop 0 = dktX6_evenBy_0 := by decide +kernel
theorem dksX6_evenBy_1 : cX6_evenBy.data.toList.drop 22 = dktX6_evenBy_1 := dk_seg dksX6_evenBy_0 22 rfl rfl
theorem dksX6_evenBy_2 : cX6_evenBy.data.toList.drop 46 = dktX6_evenBy_2 := dk_seg dksX6_evenBy_1 24 rfl rfl
theorem dksX6_evenBy_3 : cX6_evenBy.data.toList.drop 68 = dktX6_evenBy_3 := dk_seg dksX6_evenBy_2 22 rfl rfl
theorem dX6_evenBy_0 : decode cX6_evenBy 0 = .ok (.iload_n 1, 1) := dk_27 (dk_at dksX6_evenBy_0 0 rfl rfl)
theorem dX6_evenBy_1 : decode cX6_evenBy 1 = .ok (.i2l, 1) := dk_133 (dk_at dksX6_evenBy_0 1 rfl rfl)
theorem dX6_evenBy_2 : decode cX6_evenBy 2 = .ok (.lconst 1, 1) := dk_10 (dk_at dksX6_evenBy_0 2 rfl rfl)
theorem dX6_evenBy_3 : decode cX6_evenBy 3 = .ok (.ldc2_w 378, 3) := dk_20 1 122 (dk_at dksX6_evenBy_0 3 rfl rfl)
theorem dX6_evenBy_6 : decode cX6_evenBy 6 = .ok (.invokestatic 302, 3) := dk_184 1 46 (dk_at dksX6_evenBy_0 6 rfl rfl)
theorem dX6_evenBy_9 : decode cX6_evenBy 9 = .ok (.ifCond .eq 11, 3) := dk_153 0 11 (dk_at dksX6_evenBy_0 9 rfl rfl)
theorem dX6_evenBy_12 : decode cX6_evenBy 12 = .ok (.aload_n 0, 1) := dk_42 (dk_at dksX6_evenBy_0 12 rfl rfl)
theorem dX6_evenBy_13 : decode cX6_evenBy 13 = .ok (.iload_n 2, 1) := dk_28 (dk_at dksX6_evenBy_0 13 rfl rfl)
theorem dX6_evenBy_14 : decode cX6_evenBy 14 = .ok (.invokevirtual 248, 3) := dk_182 0 248 (dk_at dksX6_evenBy_0 14 rfl rfl)
theorem dX6_evenBy_17 : decode cX6_evenBy 17 = .ok (.ifCond .ne 9, 3) := dk_154 0 9 (dk_at dksX6_evenBy_0 17 rfl rfl)
theorem dX6_evenBy_20 : decode cX6_evenBy 20 = .ok (.aload_n 0, 1) := dk_42 (dk_at dksX6_evenBy_0 20 rfl rfl)
theorem dX6_evenBy_21 : decode cX6_evenBy 21 = .ok (.iconst 1, 1) := dk_4 (dk_at dksX6_evenBy_0 21 rfl rfl)
theorem dX6_evenBy_22 : decode cX6_evenBy 22 = .ok (.invokevirtual 75, 3) := dk_182 0 75 (dk_at dksX6_evenBy_1 0 rfl rfl)
theorem dX6_evenBy_25 : decode cX6_evenBy 25 = .ok (.ireturn, 1) := dk_172 (dk_at dksX6_evenBy_1 3 rfl rfl)
theorem dX6_evenBy_26 : decode cX6_evenBy 26 = .ok (.aload_n 0, 1) := dk_42 (dk_at dksX6_evenBy_1 4 rfl rfl)
theorem dX6_evenBy_27 : decode cX6_evenBy 27 = .ok (.iload_n 1, 1) := dk_27 (dk_at dksX6_evenBy_1 5 rfl rfl)
theorem dX6_evenBy_28 : decode cX6_evenBy 28 = .ok (.invokevirtual 380, 3) := dk_182 1 124 (dk_at dksX6_evenBy_1 6 rfl rfl)
theorem dX6_evenBy_31 : decode cX6_evenBy 31 = .ok (.istore_n 3, 1) := dk_62 (dk_at dksX6_evenBy_1 9 rfl rfl)
theorem dX6_evenBy_32 : decode cX6_evenBy 32 = .ok (.iload_n 3, 1) := dk_29 (dk_at dksX6_evenBy_1 10 rfl rfl)
theorem dX6_evenBy_33 : decode cX6_evenBy 33 = .ok (.iconst (-1), 1) := dk_2 (dk_at dksX6_evenBy_1 11 rfl rfl)
theorem dX6_evenBy_34 : decode cX6_evenBy 34 = .ok (.if_icmp .ne 10, 3) := dk_160 0 10 (dk_at dksX6_evenBy_1 12 rfl rfl)
theorem dX6_evenBy_37 : decode cX6_evenBy 37 = .ok (.aload_n 0, 1) := dk_42 (dk_at dksX6_evenBy_1 15 rfl rfl)
theorem dX6_evenBy_38 : decode cX6_evenBy 38 = .ok (.bipush 6, 2) := dk_16 6 (dk_at dksX6_evenBy_1 16 rfl rfl)
theorem dX6_evenBy_40 : decode cX6_evenBy 40 = .ok (.invokevirtual 75, 3) := dk_182 0 75 (dk_at dksX6_evenBy_1 18 rfl rfl)
theorem dX6_evenBy_43 : decode cX6_evenBy 43 = .ok (.ireturn, 1) := dk_172 (dk_at dksX6_evenBy_1 21 rfl rfl)
theorem dX6_evenBy_44 : decode cX6_evenBy 44 = .ok (.aload_n 0, 1) := dk_42 (dk_at dksX6_evenBy_1 22 rfl rfl)
theorem dX6_evenBy_45 : decode cX6_evenBy 45 = .ok (.aload_n 0, 1) := dk_42 (dk_at dksX6_evenBy_1 23 rfl rfl)
theorem dX6_evenBy_46 : decode cX6_evenBy 46 = .ok (.aload_n 0, 1) := dk_42 (dk_at dksX6_evenBy_2 0 rfl rfl)
theorem dX6_evenBy_47 : decode cX6_evenBy 47 = .ok (.invokevirtual 264, 3) := dk_182 1 8 (dk_at dksX6_evenBy_2 1 rfl rfl)
theorem dX6_evenBy_50 : decode cX6_evenBy 50 = .ok (.iload_n 2, 1) := dk_28 (dk_at dksX6_evenBy_2 4 rfl rfl)
theorem dX6_evenBy_51 : decode cX6_evenBy 51 = .ok (.invokevirtual 270, 3) := dk_182 1 14 (dk_at dksX6_evenBy_2 5 rfl rfl)
theorem dX6_evenBy_54 : decode cX6_evenBy 54 = .ok (.ifCond .eq 13, 3) := dk_153 0 13 (dk_at dksX6_evenBy_2 8 rfl rfl)
theorem dX6_evenBy_57 : decode cX6_evenBy 57 = .ok (.aload_n 0, 1) := dk_42 (dk_at dksX6_evenBy_2 11 rfl rfl)
theorem dX6_evenBy_58 : decode cX6_evenBy 58 = .ok (.iload_n 1, 1) := dk_27 (dk_at dksX6_evenBy_2 12 rfl rfl)
theorem dX6_evenBy_59 : decode cX6_evenBy 59 = .ok (.iload_n 3, 1) := dk_29 (dk_at dksX6_evenBy_2 13 rfl rfl)
theorem dX6_evenBy_60 : decode cX6_evenBy 60 = .ok (.iload_n 2, 1) := dk_28 (dk_at dksX6_evenBy_2 14 rfl rfl)
theorem dX6_evenBy_61 : decode cX6_evenBy 61 = .ok (.invokevirtual 375, 3) := dk_182 1 119 (dk_at dksX6_evenBy_2 15 rfl rfl)
theorem dX6_evenBy_64 : decode cX6_evenBy 64 = .ok (.goto 4, 3) := dk_167 0 4 (dk_at dksX6_evenBy_2 18 rfl rfl)
theorem dX6_evenBy_67 : decode cX6_evenBy 67 = .ok (.iconst 0, 1) := dk_3 (dk_at dksX6_evenBy_2 21 rfl rfl)
theorem dX6_evenBy_68 : decode cX6_evenBy 68 = .ok (.invokevirtual 79, 3) := dk_182 0 79 (dk_at dksX6_evenBy_3 0 rfl rfl)
theorem dX6_evenBy_71 : decode cX6_evenBy 71 = .ok (.ireturn, 1) := dk_172 (dk_at dksX6_evenBy_3 3 rfl rfl)
abbrev cX6_comes : ByteArray := prog_16_method_123_code
def yX6_comes : MethodName := ⟨RX6, "comes", "(II)I"⟩
def dkwX6_comes_3 : List UInt8 := [180, 0, 7, 16, 8, 46, 184, 0, 254, 182, 0, 79, 172]
abbrev dktX6_comes_3 : List UInt8 := dkwX6_comes_3 ++ []
def dkwX6_comes_2 : List UInt8 := [42, 16, 7, 182, 0, 75, 172, 42, 180, 0, 7, 16, 8, 92, 46, 4, 27, 120, 130, 79, 42, 42]
abbrev dktX6_comes_2 : List UInt8 := dkwX6_comes_2 ++ dktX6_comes_3
def dkwX6_comes_1 : List UInt8 := [42, 180, 0, 7, 16, 8, 46, 27, 182, 1, 14, 28, 4, 160, 0, 7, 4, 167, 0, 4, 3, 160, 0, 10]
abbrev dktX6_comes_1 : List UInt8 := dkwX6_comes_1 ++ dktX6_comes_2
def dkwX6_comes_0 : List UInt8 := [42, 27, 182, 0, 248, 153, 0, 12, 28, 155, 0, 8, 28, 4, 164, 0, 9, 42, 4, 182, 0, 75, 172, 42]
abbrev dktX6_comes_0 : List UInt8 := dkwX6_comes_0 ++ dktX6_comes_1
theorem dksX6_comes_0 : cX6_comes.data.toList.drop 0 = dktX6_comes_0 := by decide +kernel
theorem dksX6_comes_1 : cX6_comes.data.toList.drop 24 = dktX6_comes_1 := dk_seg dksX6_comes_0 24 rfl rfl
theorem dksX6_comes_2 : cX6_comes.data.toList.drop 48 = dktX6_comes_2 := dk_seg dksX6_comes_1 24 rfl rfl
theorem dksX6_comes_3 : cX6_comes.data.toList.drop 70 = dktX6_comes_3 := dk_seg dksX6_comes_2 22 rfl rfl
theorem dX6_comes_0 : decode cX6_comes 0 = .ok (.aload_n 0, 1) := dk_42 (dk_at dksX6_comes_0 0 rfl rfl)
theorem dX6_comes_1 : decode cX6_comes 1 = .ok (.iload_n 1, 1) := dk_27 (dk_at dksX6_comes_0 1 rfl rfl)
theorem dX6_comes_2 : decode cX6_comes 2 = .ok (.invokevirtual 248, 3) := dk_182 0 248 (dk_at dksX6_comes_0 2 rfl rfl)
theorem dX6_comes_5 : decode cX6_comes 5 = .ok (.ifCond .eq 12, 3) := dk_153 0 12 (dk_at dksX6_comes_0 5 rfl rfl)
theorem dX6_comes_8 : decode cX6_comes 8 = .ok (.iload_n 2, 1) := dk_28 (dk_at dksX6_comes_0 8 rfl rfl)
theorem dX6_comes_9 : decode cX6_comes 9 = .ok (.ifCond .lt 8, 3) := dk_155 0 8 (dk_at dksX6_comes_0 9 rfl rfl)
theorem dX6_comes_12 : decode cX6_comes 12 = .ok (.iload_n 2, 1) := dk_28 (dk_at dksX6_comes_0 12 rfl rfl)
theorem dX6_comes_13 : decode cX6_comes 13 = .ok (.iconst 1, 1) := dk_4 (dk_at dksX6_comes_0 13 rfl rfl)
theorem dX6_comes_14 : decode cX6_comes 14 = .ok (.if_icmp .le 9, 3) := dk_164 0 9 (dk_at dksX6_comes_0 14 rfl rfl)
theorem dX6_comes_17 : decode cX6_comes 17 = .ok (.aload_n 0, 1) := dk_42 (dk_at dksX6_comes_0 17 rfl rfl)
theorem dX6_comes_18 : decode cX6_comes 18 = .ok (.iconst 1, 1) := dk_4 (dk_at dksX6_comes_0 18 rfl rfl)
theorem dX6_comes_19 : decode cX6_comes 19 = .ok (.invokevirtual 75, 3) := dk_182 0 75 (dk_at dksX6_comes_0 19 rfl rfl)
theorem dX6_comes_22 : decode cX6_comes 22 = .ok (.ireturn, 1) := dk_172 (dk_at dksX6_comes_0 22 rfl rfl)
theorem dX6_comes_23 : decode cX6_comes 23 = .ok (.aload_n 0, 1) := dk_42 (dk_at dksX6_comes_0 23 rfl rfl)
theorem dX6_comes_24 : decode cX6_comes 24 = .ok (.aload_n 0, 1) := dk_42 (dk_at dksX6_comes_1 0 rfl rfl)
theorem dX6_comes_25 : decode cX6_comes 25 = .ok (.getfield 7, 3) := dk_180 0 7 (dk_at dksX6_comes_1 1 rfl rfl)
theorem dX6_comes_28 : decode cX6_comes 28 = .ok (.bipush 8, 2) := dk_16 8 (dk_at dksX6_comes_1 4 rfl rfl)
theorem dX6_comes_30 : decode cX6_comes 30 = .ok (.iaload, 1) := dk_46 (dk_at dksX6_comes_1 6 rfl rfl)
theorem dX6_comes_31 : decode cX6_comes 31 = .ok (.iload_n 1, 1) := dk_27 (dk_at dksX6_comes_1 7 rfl rfl)
theorem dX6_comes_32 : decode cX6_comes 32 = .ok (.invokevirtual 270, 3) := dk_182 1 14 (dk_at dksX6_comes_1 8 rfl rfl)
theorem dX6_comes_35 : decode cX6_comes 35 = .ok (.iload_n 2, 1) := dk_28 (dk_at dksX6_comes_1 11 rfl rfl)
theorem dX6_comes_36 : decode cX6_comes 36 = .ok (.iconst 1, 1) := dk_4 (dk_at dksX6_comes_1 12 rfl rfl)
theorem dX6_comes_37 : decode cX6_comes 37 = .ok (.if_icmp .ne 7, 3) := dk_160 0 7 (dk_at dksX6_comes_1 13 rfl rfl)
theorem dX6_comes_40 : decode cX6_comes 40 = .ok (.iconst 1, 1) := dk_4 (dk_at dksX6_comes_1 16 rfl rfl)
theorem dX6_comes_41 : decode cX6_comes 41 = .ok (.goto 4, 3) := dk_167 0 4 (dk_at dksX6_comes_1 17 rfl rfl)
theorem dX6_comes_44 : decode cX6_comes 44 = .ok (.iconst 0, 1) := dk_3 (dk_at dksX6_comes_1 20 rfl rfl)
theorem dX6_comes_45 : decode cX6_comes 45 = .ok (.if_icmp .ne 10, 3) := dk_160 0 10 (dk_at dksX6_comes_1 21 rfl rfl)
theorem dX6_comes_48 : decode cX6_comes 48 = .ok (.aload_n 0, 1) := dk_42 (dk_at dksX6_comes_2 0 rfl rfl)
theorem dX6_comes_49 : decode cX6_comes 49 = .ok (.bipush 7, 2) := dk_16 7 (dk_at dksX6_comes_2 1 rfl rfl)
theorem dX6_comes_51 : decode cX6_comes 51 = .ok (.invokevirtual 75, 3) := dk_182 0 75 (dk_at dksX6_comes_2 3 rfl rfl)
theorem dX6_comes_54 : decode cX6_comes 54 = .ok (.ireturn, 1) := dk_172 (dk_at dksX6_comes_2 6 rfl rfl)
theorem dX6_comes_55 : decode cX6_comes 55 = .ok (.aload_n 0, 1) := dk_42 (dk_at dksX6_comes_2 7 rfl rfl)
theorem dX6_comes_56 : decode cX6_comes 56 = .ok (.getfield 7, 3) := dk_180 0 7 (dk_at dksX6_comes_2 8 rfl rfl)
theorem dX6_comes_59 : decode cX6_comes 59 = .ok (.bipush 8, 2) := dk_16 8 (dk_at dksX6_comes_2 11 rfl rfl)
theorem dX6_comes_61 : decode cX6_comes 61 = .ok (.dup2, 1) := dk_92 (dk_at dksX6_comes_2 13 rfl rfl)
theorem dX6_comes_62 : decode cX6_comes 62 = .ok (.iaload, 1) := dk_46 (dk_at dksX6_comes_2 14 rfl rfl)
theorem dX6_comes_63 : decode cX6_comes 63 = .ok (.iconst 1, 1) := dk_4 (dk_at dksX6_comes_2 15 rfl rfl)
theorem dX6_comes_64 : decode cX6_comes 64 = .ok (.iload_n 1, 1) := dk_27 (dk_at dksX6_comes_2 16 rfl rfl)
theorem dX6_comes_65 : decode cX6_comes 65 = .ok (.ishl, 1) := dk_120 (dk_at dksX6_comes_2 17 rfl rfl)
theorem dX6_comes_66 : decode cX6_comes 66 = .ok (.ixor, 1) := dk_130 (dk_at dksX6_comes_2 18 rfl rfl)
theorem dX6_comes_67 : decode cX6_comes 67 = .ok (.iastore, 1) := dk_79 (dk_at dksX6_comes_2 19 rfl rfl)
theorem dX6_comes_68 : decode cX6_comes 68 = .ok (.aload_n 0, 1) := dk_42 (dk_at dksX6_comes_2 20 rfl rfl)
theorem dX6_comes_69 : decode cX6_comes 69 = .ok (.aload_n 0, 1) := dk_42 (dk_at dksX6_comes_2 21 rfl rfl)
theorem dX6_comes_70 : decode cX6_comes 70 = .ok (.getfield 7, 3) := dk_180 0 7 (dk_at dksX6_comes_3 0 rfl rfl)
theorem dX6_comes_73 : decode cX6_comes 73 = .ok (.bipush 8, 2) := dk_16 8 (dk_at dksX6_comes_3 3 rfl rfl)
theorem dX6_comes_75 : decode cX6_comes 75 = .ok (.iaload, 1) := dk_46 (dk_at dksX6_comes_3 5 rfl rfl)
theorem dX6_comes_76 : decode cX6_comes 76 = .ok (.invokestatic 254, 3) := dk_184 0 254 (dk_at dksX6_comes_3 6 rfl rfl)
theorem dX6_comes_79 : decode cX6_comes 79 = .ok (.invokevirtual 79, 3) := dk_182 0 79 (dk_at dksX6_comes_3 9 rfl rfl)
theorem dX6_comes_82 : decode cX6_comes 82 = .ok (.ireturn, 1) := dk_172 (dk_at dksX6_comes_3 12 rfl rfl)
abbrev cX6_buys : ByteArray := prog_16_method_126_code
def yX6_buys : MethodName := ⟨RX6, "buys", "()I"⟩
def dkwX6_buys_0 : List UInt8 := [42, 42, 182, 1, 130, 182, 1, 35, 172]
abbrev dktX6_buys_0 : List UInt8 := dkwX6_buys_0 ++ []
theorem dksX6_buys_0 : cX6_buys.data.toList.drop 0 = dktX6_buys_0 := by decide +kernel
theorem dX6_buys_0 : decode cX6_buys 0 = .ok (.aload_n 0, 1) := dk_42 (dk_at dksX6_buys_0 0 rfl rfl)
theorem dX6_buys_1 : decode cX6_buys 1 = .ok (.aload_n 0, 1) := dk_42 (dk_at dksX6_buys_0 1 rfl rfl)
theorem dX6_buys_2 : decode cX6_buys 2 = .ok (.invokevirtual 386, 3) := dk_182 1 130 (dk_at dksX6_buys_0 2 rfl rfl)
theorem dX6_buys_5 : decode cX6_buys 5 = .ok (.invokevirtual 291, 3) := dk_182 1 35 (dk_at dksX6_buys_0 5 rfl rfl)
theorem dX6_buys_8 : decode cX6_buys 8 = .ok (.ireturn, 1) := dk_172 (dk_at dksX6_buys_0 8 rfl rfl)
abbrev cX6_buyer : ByteArray := prog_16_method_125_code
def yX6_buyer : MethodName := ⟨RX6, "buyer", "()I"⟩
def dkwX6_buyer_2 : List UInt8 := [28, 60, 132, 2, 1, 167, 255, 208, 27, 172]
abbrev dktX6_buyer_2 : List UInt8 := dkwX6_buyer_2 ++ []
def dkwX6_buyer_1 : List UInt8 := [182, 1, 14, 153, 0, 23, 27, 2, 159, 0, 16, 42, 28, 182, 1, 127, 42, 27, 182, 1, 127, 164, 0, 5]
abbrev dktX6_buyer_1 : List UInt8 := dkwX6_buyer_1 ++ dktX6_buyer_2
def dkwX6_buyer_0 : List UInt8 := [2, 60, 3, 61, 28, 42, 180, 0, 7, 3, 46, 162, 0, 44, 42, 42, 180, 0, 7, 16, 8, 46, 28]
abbrev dktX6_buyer_0 : List UInt8 := dkwX6_buyer_0 ++ dktX6_buyer_1
theorem dksX6_buyer_0 : cX6_buyer.data.toList.drop 0 = dktX6_buyer_0 := by decide +kernel
theorem dksX6_buyer_1 : cX6_buyer.data.toList.drop 23 = dktX6_buyer_1 := dk_seg dksX6_buyer_0 23 rfl rfl
theorem dksX6_buyer_2 : cX6_buyer.data.toList.drop 47 = dktX6_buyer_2 := dk_seg dksX6_buyer_1 24 rfl rfl
theorem dX6_buyer_0 : decode cX6_buyer 0 = .ok (.iconst (-1), 1) := dk_2 (dk_at dksX6_buyer_0 0 rfl rfl)
theorem dX6_buyer_1 : decode cX6_buyer 1 = .ok (.istore_n 1, 1) := dk_60 (dk_at dksX6_buyer_0 1 rfl rfl)
theorem dX6_buyer_2 : decode cX6_buyer 2 = .ok (.iconst 0, 1) := dk_3 (dk_at dksX6_buyer_0 2 rfl rfl)
theorem dX6_buyer_3 : decode cX6_buyer 3 = .ok (.istore_n 2, 1) := dk_61 (dk_at dksX6_buyer_0 3 rfl rfl)
theorem dX6_buyer_4 : decode cX6_buyer 4 = .ok (.iload_n 2, 1) := dk_28 (dk_at dksX6_buyer_0 4 rfl rfl)
theorem dX6_buyer_5 : decode cX6_buyer 5 = .ok (.aload_n 0, 1) := dk_42 (dk_at dksX6_buyer_0 5 rfl rfl)
theorem dX6_buyer_6 : decode cX6_buyer 6 = .ok (.getfield 7, 3) := dk_180 0 7 (dk_at dksX6_buyer_0 6 rfl rfl)
theorem dX6_buyer_9 : decode cX6_buyer 9 = .ok (.iconst 0, 1) := dk_3 (dk_at dksX6_buyer_0 9 rfl rfl)
theorem dX6_buyer_10 : decode cX6_buyer 10 = .ok (.iaload, 1) := dk_46 (dk_at dksX6_buyer_0 10 rfl rfl)
theorem dX6_buyer_11 : decode cX6_buyer 11 = .ok (.if_icmp .ge 44, 3) := dk_162 0 44 (dk_at dksX6_buyer_0 11 rfl rfl)
theorem dX6_buyer_14 : decode cX6_buyer 14 = .ok (.aload_n 0, 1) := dk_42 (dk_at dksX6_buyer_0 14 rfl rfl)
theorem dX6_buyer_15 : decode cX6_buyer 15 = .ok (.aload_n 0, 1) := dk_42 (dk_at dksX6_buyer_0 15 rfl rfl)
theorem dX6_buyer_16 : decode cX6_buyer 16 = .ok (.getfield 7, 3) := dk_180 0 7 (dk_at dksX6_buyer_0 16 rfl rfl)
theorem dX6_buyer_19 : decode cX6_buyer 19 = .ok (.bipush 8, 2) := dk_16 8 (dk_at dksX6_buyer_0 19 rfl rfl)
theorem dX6_buyer_21 : decode cX6_buyer 21 = .ok (.iaload, 1) := dk_46 (dk_at dksX6_buyer_0 21 rfl rfl)
theorem dX6_buyer_22 : decode cX6_buyer 22 = .ok (.iload_n 2, 1) := dk_28 (dk_at dksX6_buyer_0 22 rfl rfl)
theorem dX6_buyer_23 : decode cX6_buyer 23 = .ok (.invokevirtual 270, 3) := dk_182 1 14 (dk_at dksX6_buyer_1 0 rfl rfl)
theorem dX6_buyer_26 : decode cX6_buyer 26 = .ok (.ifCond .eq 23, 3) := dk_153 0 23 (dk_at dksX6_buyer_1 3 rfl rfl)
theorem dX6_buyer_29 : decode cX6_buyer 29 = .ok (.iload_n 1, 1) := dk_27 (dk_at dksX6_buyer_1 6 rfl rfl)
theorem dX6_buyer_30 : decode cX6_buyer 30 = .ok (.iconst (-1), 1) := dk_2 (dk_at dksX6_buyer_1 7 rfl rfl)
theorem dX6_buyer_31 : decode cX6_buyer 31 = .ok (.if_icmp .eq 16, 3) := dk_159 0 16 (dk_at dksX6_buyer_1 8 rfl rfl)
theorem dX6_buyer_34 : decode cX6_buyer 34 = .ok (.aload_n 0, 1) := dk_42 (dk_at dksX6_buyer_1 11 rfl rfl)
theorem dX6_buyer_35 : decode cX6_buyer 35 = .ok (.iload_n 2, 1) := dk_28 (dk_at dksX6_buyer_1 12 rfl rfl)
theorem dX6_buyer_36 : decode cX6_buyer 36 = .ok (.invokevirtual 383, 3) := dk_182 1 127 (dk_at dksX6_buyer_1 13 rfl rfl)
theorem dX6_buyer_39 : decode cX6_buyer 39 = .ok (.aload_n 0, 1) := dk_42 (dk_at dksX6_buyer_1 16 rfl rfl)
theorem dX6_buyer_40 : decode cX6_buyer 40 = .ok (.iload_n 1, 1) := dk_27 (dk_at dksX6_buyer_1 17 rfl rfl)
theorem dX6_buyer_41 : decode cX6_buyer 41 = .ok (.invokevirtual 383, 3) := dk_182 1 127 (dk_at dksX6_buyer_1 18 rfl rfl)
theorem dX6_buyer_44 : decode cX6_buyer 44 = .ok (.if_icmp .le 5, 3) := dk_164 0 5 (dk_at dksX6_buyer_1 21 rfl rfl)
theorem dX6_buyer_47 : decode cX6_buyer 47 = .ok (.iload_n 2, 1) := dk_28 (dk_at dksX6_buyer_2 0 rfl rfl)
theorem dX6_buyer_48 : decode cX6_buyer 48 = .ok (.istore_n 1, 1) := dk_60 (dk_at dksX6_buyer_2 1 rfl rfl)
theorem dX6_buyer_49 : decode cX6_buyer 49 = .ok (.iinc 2 1, 3) := dk_132 2 1 (dk_at dksX6_buyer_2 2 rfl rfl)
theorem dX6_buyer_52 : decode cX6_buyer 52 = .ok (.goto (-48), 3) := dk_167 255 208 (dk_at dksX6_buyer_2 5 rfl rfl)
theorem dX6_buyer_55 : decode cX6_buyer 55 = .ok (.iload_n 1, 1) := dk_27 (dk_at dksX6_buyer_2 8 rfl rfl)
theorem dX6_buyer_56 : decode cX6_buyer 56 = .ok (.ireturn, 1) := dk_172 (dk_at dksX6_buyer_2 9 rfl rfl)
abbrev cX6_drinksOf : ByteArray := prog_16_method_124_code
def yX6_drinksOf : MethodName := ⟨RX6, "drinksOf", "(I)I"⟩
def dkwX6_drinksOf_1 : List UInt8 := [100, 172]
abbrev dktX6_drinksOf_1 : List UInt8 := dkwX6_drinksOf_1 ++ []
def dkwX6_drinksOf_0 : List UInt8 := [42, 180, 0, 7, 27, 184, 1, 11, 16, 6, 96, 46, 42, 180, 0, 7, 27, 184, 1, 11, 16, 7, 96, 46]
abbrev dktX6_drinksOf_0 : List UInt8 := dkwX6_drinksOf_0 ++ dktX6_drinksOf_1
theorem dksX6_drinksOf_0 : cX6_drinksOf.data.toList.drop 0 = dktX6_drinksOf_0 := by decide +kernel
theorem dksX6_drinksOf_1 : cX6_drinksOf.data.toList.drop 24 = dktX6_drinksOf_1 := dk_seg dksX6_drinksOf_0 24 rfl rfl
theorem dX6_drinksOf_0 : decode cX6_drinksOf 0 = .ok (.aload_n 0, 1) := dk_42 (dk_at dksX6_drinksOf_0 0 rfl rfl)
theorem dX6_drinksOf_1 : decode cX6_drinksOf 1 = .ok (.getfield 7, 3) := dk_180 0 7 (dk_at dksX6_drinksOf_0 1 rfl rfl)
theorem dX6_drinksOf_4 : decode cX6_drinksOf 4 = .ok (.iload_n 1, 1) := dk_27 (dk_at dksX6_drinksOf_0 4 rfl rfl)
theorem dX6_drinksOf_5 : decode cX6_drinksOf 5 = .ok (.invokestatic 267, 3) := dk_184 1 11 (dk_at dksX6_drinksOf_0 5 rfl rfl)
theorem dX6_drinksOf_8 : decode cX6_drinksOf 8 = .ok (.bipush 6, 2) := dk_16 6 (dk_at dksX6_drinksOf_0 8 rfl rfl)
theorem dX6_drinksOf_10 : decode cX6_drinksOf 10 = .ok (.iadd, 1) := dk_96 (dk_at dksX6_drinksOf_0 10 rfl rfl)
theorem dX6_drinksOf_11 : decode cX6_drinksOf 11 = .ok (.iaload, 1) := dk_46 (dk_at dksX6_drinksOf_0 11 rfl rfl)
theorem dX6_drinksOf_12 : decode cX6_drinksOf 12 = .ok (.aload_n 0, 1) := dk_42 (dk_at dksX6_drinksOf_0 12 rfl rfl)
theorem dX6_drinksOf_13 : decode cX6_drinksOf 13 = .ok (.getfield 7, 3) := dk_180 0 7 (dk_at dksX6_drinksOf_0 13 rfl rfl)
theorem dX6_drinksOf_16 : decode cX6_drinksOf 16 = .ok (.iload_n 1, 1) := dk_27 (dk_at dksX6_drinksOf_0 16 rfl rfl)
theorem dX6_drinksOf_17 : decode cX6_drinksOf 17 = .ok (.invokestatic 267, 3) := dk_184 1 11 (dk_at dksX6_drinksOf_0 17 rfl rfl)
theorem dX6_drinksOf_20 : decode cX6_drinksOf 20 = .ok (.bipush 7, 2) := dk_16 7 (dk_at dksX6_drinksOf_0 20 rfl rfl)
theorem dX6_drinksOf_22 : decode cX6_drinksOf 22 = .ok (.iadd, 1) := dk_96 (dk_at dksX6_drinksOf_0 22 rfl rfl)
theorem dX6_drinksOf_23 : decode cX6_drinksOf 23 = .ok (.iaload, 1) := dk_46 (dk_at dksX6_drinksOf_0 23 rfl rfl)
theorem dX6_drinksOf_24 : decode cX6_drinksOf 24 = .ok (.isub, 1) := dk_100 (dk_at dksX6_drinksOf_1 0 rfl rfl)
theorem dX6_drinksOf_25 : decode cX6_drinksOf 25 = .ok (.ireturn, 1) := dk_172 (dk_at dksX6_drinksOf_1 1 rfl rfl)
abbrev cX6_round : ByteArray := prog_16_method_128_code
def yX6_round : MethodName := ⟨RX6, "round", "()I"⟩
def dkwX6_round_0 : List UInt8 := [42, 42, 182, 1, 133, 182, 1, 35, 172]
abbrev dktX6_round_0 : List UInt8 := dkwX6_round_0 ++ []
theorem dksX6_round_0 : cX6_round.data.toList.drop 0 = dktX6_round_0 := by decide +kernel
theorem dX6_round_0 : decode cX6_round 0 = .ok (.aload_n 0, 1) := dk_42 (dk_at dksX6_round_0 0 rfl rfl)
theorem dX6_round_1 : decode cX6_round 1 = .ok (.aload_n 0, 1) := dk_42 (dk_at dksX6_round_0 1 rfl rfl)
theorem dX6_round_2 : decode cX6_round 2 = .ok (.invokevirtual 389, 3) := dk_182 1 133 (dk_at dksX6_round_0 2 rfl rfl)
theorem dX6_round_5 : decode cX6_round 5 = .ok (.invokevirtual 291, 3) := dk_182 1 35 (dk_at dksX6_round_0 5 rfl rfl)
theorem dX6_round_8 : decode cX6_round 8 = .ok (.ireturn, 1) := dk_172 (dk_at dksX6_round_0 8 rfl rfl)
abbrev cX6_rounds : ByteArray := prog_16_method_127_code
def yX6_rounds : MethodName := ⟨RX6, "rounds", "()I"⟩
def dkwX6_rounds_3 : List UInt8 := [180, 0, 7, 16, 8, 46, 184, 0, 254, 96, 79, 42, 180, 0, 7, 8, 92, 46, 4, 96, 79, 27, 172]
abbrev dktX6_rounds_3 : List UInt8 := dkwX6_rounds_3 ++ []
def dkwX6_rounds_2 : List UInt8 := [96, 79, 132, 2, 1, 167, 255, 217, 42, 180, 0, 7, 27, 184, 1, 11, 16, 7, 96, 92, 46, 42]
abbrev dktX6_rounds_2 : List UInt8 := dkwX6_rounds_2 ++ dktX6_rounds_3
def dkwX6_rounds_1 : List UInt8 := [42, 180, 0, 7, 28, 184, 1, 11, 16, 6, 96, 92, 46, 42, 180, 0, 7, 16, 8, 46, 28, 122, 4, 126]
abbrev dktX6_rounds_1 : List UInt8 := dkwX6_rounds_1 ++ dktX6_rounds_2
def dkwX6_rounds_0 : List UInt8 := [42, 182, 1, 130, 60, 27, 2, 160, 0, 5, 2, 172, 3, 61, 28, 42, 180, 0, 7, 3, 46, 162, 0, 35]
abbrev dktX6_rounds_0 : List UInt8 := dkwX6_rounds_0 ++ dktX6_rounds_1
theorem dksX6_rounds_0 : cX6_rounds.data.toList.drop 0 = dktX6_rounds_0 := by decide +kernel
theorem dksX6_rounds_1 : cX6_rounds.data.toList.drop 24 = dktX6_rounds_1 := dk_seg dksX6_rounds_0 24 rfl rfl
theorem dksX6_rounds_2 : cX6_rounds.data.toList.drop 48 = dktX6_rounds_2 := dk_seg dksX6_rounds_1 24 rfl rfl
theorem dksX6_rounds_3 : cX6_rounds.data.toList.drop 70 = dktX6_rounds_3 := dk_seg dksX6_rounds_2 22 rfl rfl
theorem dX6_rounds_0 : decode cX6_rounds 0 = .ok (.aload_n 0, 1) := dk_42 (dk_at dksX6_rounds_0 0 rfl rfl)
theorem dX6_rounds_1 : decode cX6_rounds 1 = .ok (.invokevirtual 386, 3) := dk_182 1 130 (dk_at dksX6_rounds_0 1 rfl rfl)
theorem dX6_rounds_4 : decode cX6_rounds 4 = .ok (.istore_n 1, 1) := dk_60 (dk_at dksX6_rounds_0 4 rfl rfl)
theorem dX6_rounds_5 : decode cX6_rounds 5 = .ok (.iload_n 1, 1) := dk_27 (dk_at dksX6_rounds_0 5 rfl rfl)
theorem dX6_rounds_6 : decode cX6_rounds 6 = .ok (.iconst (-1), 1) := dk_2 (dk_at dksX6_rounds_0 6 rfl rfl)
theorem dX6_rounds_7 : decode cX6_rounds 7 = .ok (.if_icmp .ne 5, 3) := dk_160 0 5 (dk_at dksX6_rounds_0 7 rfl rfl)
theorem dX6_rounds_10 : decode cX6_rounds 10 = .ok (.iconst (-1), 1) := dk_2 (dk_at dksX6_rounds_0 10 rfl rfl)
theorem dX6_rounds_11 : decode cX6_rounds 11 = .ok (.ireturn, 1) := dk_172 (dk_at dksX6_rounds_0 11 rfl rfl)
theorem dX6_rounds_12 : decode cX6_rounds 12 = .ok (.iconst 0, 1) := dk_3 (dk_at dksX6_rounds_0 12 rfl rfl)
theorem dX6_rounds_13 : decode cX6_rounds 13 = .ok (.istore_n 2, 1) := dk_61 (dk_at dksX6_rounds_0 13 rfl rfl)
theorem dX6_rounds_14 : decode cX6_rounds 14 = .ok (.iload_n 2, 1) := dk_28 (dk_at dksX6_rounds_0 14 rfl rfl)
theorem dX6_rounds_15 : decode cX6_rounds 15 = .ok (.aload_n 0, 1) := dk_42 (dk_at dksX6_rounds_0 15 rfl rfl)
theorem dX6_rounds_16 : decode cX6_rounds 16 = .ok (.getfield 7, 3) := dk_180 0 7 (dk_at dksX6_rounds_0 16 rfl rfl)
theorem dX6_rounds_19 : decode cX6_rounds 19 = .ok (.iconst 0, 1) := dk_3 (dk_at dksX6_rounds_0 19 rfl rfl)
theorem dX6_rounds_20 : decode cX6_rounds 20 = .ok (.iaload, 1) := dk_46 (dk_at dksX6_rounds_0 20 rfl rfl)
theorem dX6_rounds_21 : decode cX6_rounds 21 = .ok (.if_icmp .ge 35, 3) := dk_162 0 35 (dk_at dksX6_rounds_0 21 rfl rfl)
theorem dX6_rounds_24 : decode cX6_rounds 24 = .ok (.aload_n 0, 1) := dk_42 (dk_at dksX6_rounds_1 0 rfl rfl)
theorem dX6_rounds_25 : decode cX6_rounds 25 = .ok (.getfield 7, 3) := dk_180 0 7 (dk_at dksX6_rounds_1 1 rfl rfl)
theorem dX6_rounds_28 : decode cX6_rounds 28 = .ok (.iload_n 2, 1) := dk_28 (dk_at dksX6_rounds_1 4 rfl rfl)
theorem dX6_rounds_29 : decode cX6_rounds 29 = .ok (.invokestatic 267, 3) := dk_184 1 11 (dk_at dksX6_rounds_1 5 rfl rfl)
theorem dX6_rounds_32 : decode cX6_rounds 32 = .ok (.bipush 6, 2) := dk_16 6 (dk_at dksX6_rounds_1 8 rfl rfl)
theorem dX6_rounds_34 : decode cX6_rounds 34 = .ok (.iadd, 1) := dk_96 (dk_at dksX6_rounds_1 10 rfl rfl)
theorem dX6_rounds_35 : decode cX6_rounds 35 = .ok (.dup2, 1) := dk_92 (dk_at dksX6_rounds_1 11 rfl rfl)
theorem dX6_rounds_36 : decode cX6_rounds 36 = .ok (.iaload, 1) := dk_46 (dk_at dksX6_rounds_1 12 rfl rfl)
theorem dX6_rounds_37 : decode cX6_rounds 37 = .ok (.aload_n 0, 1) := dk_42 (dk_at dksX6_rounds_1 13 rfl rfl)
theorem dX6_rounds_38 : decode cX6_rounds 38 = .ok (.getfield 7, 3) := dk_180 0 7 (dk_at dksX6_rounds_1 14 rfl rfl)
theorem dX6_rounds_41 : decode cX6_rounds 41 = .ok (.bipush 8, 2) := dk_16 8 (dk_at dksX6_rounds_1 17 rfl rfl)
theorem dX6_rounds_43 : decode cX6_rounds 43 = .ok (.iaload, 1) := dk_46 (dk_at dksX6_rounds_1 19 rfl rfl)
theorem dX6_rounds_44 : decode cX6_rounds 44 = .ok (.iload_n 2, 1) := dk_28 (dk_at dksX6_rounds_1 20 rfl rfl)
theorem dX6_rounds_45 : decode cX6_rounds 45 = .ok (.ishr, 1) := dk_122 (dk_at dksX6_rounds_1 21 rfl rfl)
theorem dX6_rounds_46 : decode cX6_rounds 46 = .ok (.iconst 1, 1) := dk_4 (dk_at dksX6_rounds_1 22 rfl rfl)
theorem dX6_rounds_47 : decode cX6_rounds 47 = .ok (.iand, 1) := dk_126 (dk_at dksX6_rounds_1 23 rfl rfl)
theorem dX6_rounds_48 : decode cX6_rounds 48 = .ok (.iadd, 1) := dk_96 (dk_at dksX6_rounds_2 0 rfl rfl)
theorem dX6_rounds_49 : decode cX6_rounds 49 = .ok (.iastore, 1) := dk_79 (dk_at dksX6_rounds_2 1 rfl rfl)
theorem dX6_rounds_50 : decode cX6_rounds 50 = .ok (.iinc 2 1, 3) := dk_132 2 1 (dk_at dksX6_rounds_2 2 rfl rfl)
theorem dX6_rounds_53 : decode cX6_rounds 53 = .ok (.goto (-39), 3) := dk_167 255 217 (dk_at dksX6_rounds_2 5 rfl rfl)
theorem dX6_rounds_56 : decode cX6_rounds 56 = .ok (.aload_n 0, 1) := dk_42 (dk_at dksX6_rounds_2 8 rfl rfl)
theorem dX6_rounds_57 : decode cX6_rounds 57 = .ok (.getfield 7, 3) := dk_180 0 7 (dk_at dksX6_rounds_2 9 rfl rfl)
theorem dX6_rounds_60 : decode cX6_rounds 60 = .ok (.iload_n 1, 1) := dk_27 (dk_at dksX6_rounds_2 12 rfl rfl)
theorem dX6_rounds_61 : decode cX6_rounds 61 = .ok (.invokestatic 267, 3) := dk_184 1 11 (dk_at dksX6_rounds_2 13 rfl rfl)
theorem dX6_rounds_64 : decode cX6_rounds 64 = .ok (.bipush 7, 2) := dk_16 7 (dk_at dksX6_rounds_2 16 rfl rfl)
theorem dX6_rounds_66 : decode cX6_rounds 66 = .ok (.iadd, 1) := dk_96 (dk_at dksX6_rounds_2 18 rfl rfl)
theorem dX6_rounds_67 : decode cX6_rounds 67 = .ok (.dup2, 1) := dk_92 (dk_at dksX6_rounds_2 19 rfl rfl)
theorem dX6_rounds_68 : decode cX6_rounds 68 = .ok (.iaload, 1) := dk_46 (dk_at dksX6_rounds_2 20 rfl rfl)
theorem dX6_rounds_69 : decode cX6_rounds 69 = .ok (.aload_n 0, 1) := dk_42 (dk_at dksX6_rounds_2 21 rfl rfl)
theorem dX6_rounds_70 : decode cX6_rounds 70 = .ok (.getfield 7, 3) := dk_180 0 7 (dk_at dksX6_rounds_3 0 rfl rfl)
theorem dX6_rounds_73 : decode cX6_rounds 73 = .ok (.bipush 8, 2) := dk_16 8 (dk_at dksX6_rounds_3 3 rfl rfl)
theorem dX6_rounds_75 : decode cX6_rounds 75 = .ok (.iaload, 1) := dk_46 (dk_at dksX6_rounds_3 5 rfl rfl)
theorem dX6_rounds_76 : decode cX6_rounds 76 = .ok (.invokestatic 254, 3) := dk_184 0 254 (dk_at dksX6_rounds_3 6 rfl rfl)
theorem dX6_rounds_79 : decode cX6_rounds 79 = .ok (.iadd, 1) := dk_96 (dk_at dksX6_rounds_3 9 rfl rfl)
theorem dX6_rounds_80 : decode cX6_rounds 80 = .ok (.iastore, 1) := dk_79 (dk_at dksX6_rounds_3 10 rfl rfl)
theorem dX6_rounds_81 : decode cX6_rounds 81 = .ok (.aload_n 0, 1) := dk_42 (dk_at dksX6_rounds_3 11 rfl rfl)
theorem dX6_rounds_82 : decode cX6_rounds 82 = .ok (.getfield 7, 3) := dk_180 0 7 (dk_at dksX6_rounds_3 12 rfl rfl)
theorem dX6_rounds_85 : decode cX6_rounds 85 = .ok (.iconst 5, 1) := dk_8 (dk_at dksX6_rounds_3 15 rfl rfl)
theorem dX6_rounds_86 : decode cX6_rounds 86 = .ok (.dup2, 1) := dk_92 (dk_at dksX6_rounds_3 16 rfl rfl)
theorem dX6_rounds_87 : decode cX6_rounds 87 = .ok (.iaload, 1) := dk_46 (dk_at dksX6_rounds_3 17 rfl rfl)
theorem dX6_rounds_88 : decode cX6_rounds 88 = .ok (.iconst 1, 1) := dk_4 (dk_at dksX6_rounds_3 18 rfl rfl)
theorem dX6_rounds_89 : decode cX6_rounds 89 = .ok (.iadd, 1) := dk_96 (dk_at dksX6_rounds_3 19 rfl rfl)
theorem dX6_rounds_90 : decode cX6_rounds 90 = .ok (.iastore, 1) := dk_79 (dk_at dksX6_rounds_3 20 rfl rfl)
theorem dX6_rounds_91 : decode cX6_rounds 91 = .ok (.iload_n 1, 1) := dk_27 (dk_at dksX6_rounds_3 21 rfl rfl)
theorem dX6_rounds_92 : decode cX6_rounds 92 = .ok (.ireturn, 1) := dk_172 (dk_at dksX6_rounds_3 22 rfl rfl)
abbrev cX6_drinks : ByteArray := prog_16_method_129_code
def yX6_drinks : MethodName := ⟨RX6, "drinks", "(I)I"⟩
def dkwX6_drinks_1 : List UInt8 := [182, 0, 75, 172]
abbrev dktX6_drinks_1 : List UInt8 := dkwX6_drinks_1 ++ []
def dkwX6_drinks_0 : List UInt8 := [42, 27, 182, 0, 248, 153, 0, 15, 42, 42, 27, 182, 1, 127, 182, 0, 79, 167, 0, 8, 42, 4]
abbrev dktX6_drinks_0 : List UInt8 := dkwX6_drinks_0 ++ dktX6_drinks_1
theorem dksX6_drinks_0 : cX6_drinks.data.toList.drop 0 = dktX6_drinks_0 := by decide +kernel
theorem dksX6_drinks_1 : cX6_drinks.data.toList.drop 22 = dktX6_drinks_1 := dk_seg dksX6_drinks_0 22 rfl rfl
theorem dX6_drinks_0 : decode cX6_drinks 0 = .ok (.aload_n 0, 1) := dk_42 (dk_at dksX6_drinks_0 0 rfl rfl)
theorem dX6_drinks_1 : decode cX6_drinks 1 = .ok (.iload_n 1, 1) := dk_27 (dk_at dksX6_drinks_0 1 rfl rfl)
theorem dX6_drinks_2 : decode cX6_drinks 2 = .ok (.invokevirtual 248, 3) := dk_182 0 248 (dk_at dksX6_drinks_0 2 rfl rfl)
theorem dX6_drinks_5 : decode cX6_drinks 5 = .ok (.ifCond .eq 15, 3) := dk_153 0 15 (dk_at dksX6_drinks_0 5 rfl rfl)
theorem dX6_drinks_8 : decode cX6_drinks 8 = .ok (.aload_n 0, 1) := dk_42 (dk_at dksX6_drinks_0 8 rfl rfl)
theorem dX6_drinks_9 : decode cX6_drinks 9 = .ok (.aload_n 0, 1) := dk_42 (dk_at dksX6_drinks_0 9 rfl rfl)
theorem dX6_drinks_10 : decode cX6_drinks 10 = .ok (.iload_n 1, 1) := dk_27 (dk_at dksX6_drinks_0 10 rfl rfl)
theorem dX6_drinks_11 : decode cX6_drinks 11 = .ok (.invokevirtual 383, 3) := dk_182 1 127 (dk_at dksX6_drinks_0 11 rfl rfl)
theorem dX6_drinks_14 : decode cX6_drinks 14 = .ok (.invokevirtual 79, 3) := dk_182 0 79 (dk_at dksX6_drinks_0 14 rfl rfl)
theorem dX6_drinks_17 : decode cX6_drinks 17 = .ok (.goto 8, 3) := dk_167 0 8 (dk_at dksX6_drinks_0 17 rfl rfl)
theorem dX6_drinks_20 : decode cX6_drinks 20 = .ok (.aload_n 0, 1) := dk_42 (dk_at dksX6_drinks_0 20 rfl rfl)
theorem dX6_drinks_21 : decode cX6_drinks 21 = .ok (.iconst 1, 1) := dk_4 (dk_at dksX6_drinks_0 21 rfl rfl)
theorem dX6_drinks_22 : decode cX6_drinks 22 = .ok (.invokevirtual 75, 3) := dk_182 0 75 (dk_at dksX6_drinks_1 0 rfl rfl)
theorem dX6_drinks_25 : decode cX6_drinks 25 = .ok (.ireturn, 1) := dk_172 (dk_at dksX6_drinks_1 3 rfl rfl)
abbrev cX6_evenRounds : ByteArray := prog_16_method_130_code
def yX6_evenRounds : MethodName := ⟨RX6, "evenRounds", "()I"⟩
def dkwX6_evenRounds_9 : List UInt8 := [42, 180, 0, 50, 29, 92, 46, 27, 100, 79, 132, 2, 1, 167, 255, 83, 42, 16, 6, 182, 0, 75, 172]
abbrev dktX6_evenRounds_9 : List UInt8 := dkwX6_evenRounds_9 ++ []
def dkwX6_evenRounds_8 : List UInt8 := [21, 5, 92, 46, 42, 180, 0, 7, 16, 8, 46, 21, 5, 122, 4, 126, 96, 79, 132, 5, 1, 167, 255, 220]
abbrev dktX6_evenRounds_8 : List UInt8 := dkwX6_evenRounds_8 ++ dktX6_evenRounds_9
def dkwX6_evenRounds_7 : List UInt8 := [28, 182, 0, 79, 172, 3, 54, 5, 21, 5, 42, 180, 0, 7, 3, 46, 162, 0, 31, 42, 180, 0, 50]
abbrev dktX6_evenRounds_7 : List UInt8 := dkwX6_evenRounds_7 ++ dktX6_evenRounds_8
def dkwX6_evenRounds_6 : List UInt8 := [42, 180, 0, 50, 29, 46, 164, 0, 6, 21, 5, 62, 132, 5, 1, 167, 255, 166, 21, 4, 153, 0, 9, 42]
abbrev dktX6_evenRounds_6 : List UInt8 := dkwX6_evenRounds_6 ++ dktX6_evenRounds_7
def dkwX6_evenRounds_5 : List UInt8 := [29, 46, 160, 0, 7, 4, 167, 0, 4, 3, 54, 4, 29, 2, 159, 0, 19, 42, 180, 0, 50, 21, 5, 46]
abbrev dktX6_evenRounds_5 : List UInt8 := dkwX6_evenRounds_5 ++ dktX6_evenRounds_6
def dkwX6_evenRounds_4 : List UInt8 := [167, 0, 60, 21, 4, 153, 0, 28, 29, 2, 159, 0, 19, 42, 180, 0, 50, 21, 5, 46, 42, 180, 0, 50]
abbrev dktX6_evenRounds_4 : List UInt8 := dkwX6_evenRounds_4 ++ dktX6_evenRounds_5
def dkwX6_evenRounds_3 : List UInt8 := [180, 0, 7, 3, 46, 162, 0, 85, 42, 42, 180, 0, 7, 16, 8, 46, 21, 5, 182, 1, 14, 154, 0, 6]
abbrev dktX6_evenRounds_3 : List UInt8 := dkwX6_evenRounds_3 ++ dktX6_evenRounds_4
def dkwX6_evenRounds_2 : List UInt8 := [167, 255, 232, 3, 61, 28, 16, 60, 163, 0, 173, 2, 62, 4, 54, 4, 3, 54, 5, 21, 5, 42]
abbrev dktX6_evenRounds_2 : List UInt8 := dkwX6_evenRounds_2 ++ dktX6_evenRounds_3
def dkwX6_evenRounds_1 : List UInt8 := [28, 42, 180, 0, 7, 3, 46, 162, 0, 20, 42, 180, 0, 50, 28, 42, 28, 182, 1, 127, 79, 132, 2, 1]
abbrev dktX6_evenRounds_1 : List UInt8 := dkwX6_evenRounds_1 ++ dktX6_evenRounds_2
def dkwX6_evenRounds_0 : List UInt8 := [42, 180, 0, 7, 16, 8, 46, 184, 0, 254, 60, 27, 154, 0, 10, 42, 16, 6, 182, 0, 75, 172, 3, 61]
abbrev dktX6_evenRounds_0 : List UInt8 := dkwX6_evenRounds_0 ++ dktX6_evenRounds_1
theorem dksX6_evenRounds_0 : cX6_evenRounds.data.toList.drop 0 = dktX6_evenRounds_0 := by decide +kernel
theorem dksX6_evenRounds_1 : cX6_evenRounds.data.toList.drop 24 = dktX6_evenRounds_1 := dk_seg dksX6_evenRounds_0 24 rfl rfl
theorem dksX6_evenRounds_2 : cX6_evenRounds.data.toList.drop 48 = dktX6_evenRounds_2 := dk_seg dksX6_evenRounds_1 24 rfl rfl
theorem dksX6_evenRounds_3 : cX6_evenRounds.data.toList.drop 70 = dktX6_evenRounds_3 := dk_seg dksX6_evenRounds_2 22 rfl rfl
theorem dksX6_evenRounds_4 : cX6_evenRounds.data.toList.drop 94 = dktX6_evenRounds_4 := dk_seg dksX6_evenRounds_3 24 rfl rfl
theorem dksX6_evenRounds_5 : cX6_evenRounds.data.toList.drop 118 = dktX6_evenRounds_5 := dk_seg dksX6_evenRounds_4 24 rfl rfl
theorem dksX6_evenRounds_6 : cX6_evenRounds.data.toList.drop 142 = dktX6_evenRounds_6 := dk_seg dksX6_evenRounds_5 24 rfl rfl
theorem dksX6_evenRounds_7 : cX6_evenRounds.data.toList.drop 166 = dktX6_evenRounds_7 := dk_seg dksX6_evenRounds_6 24 rfl rfl
theorem dksX6_evenRounds_8 : cX6_evenRounds.data.toList.drop 189 = dktX6_evenRounds_8 := dk_seg dksX6_evenRounds_7 23 rfl rfl
theorem dksX6_evenRounds_9 : cX6_evenRounds.data.toList.drop 213 = dktX6_evenRounds_9 := dk_seg dksX6_evenRounds_8 24 rfl rfl
theorem dX6_evenRounds_0 : decode cX6_evenRounds 0 = .ok (.aload_n 0, 1) := dk_42 (dk_at dksX6_evenRounds_0 0 rfl rfl)
theorem dX6_evenRounds_1 : decode cX6_evenRounds 1 = .ok (.getfield 7, 3) := dk_180 0 7 (dk_at dksX6_evenRounds_0 1 rfl rfl)
theorem dX6_evenRounds_4 : decode cX6_evenRounds 4 = .ok (.bipush 8, 2) := dk_16 8 (dk_at dksX6_evenRounds_0 4 rfl rfl)
theorem dX6_evenRounds_6 : decode cX6_evenRounds 6 = .ok (.iaload, 1) := dk_46 (dk_at dksX6_evenRounds_0 6 rfl rfl)
theorem dX6_evenRounds_7 : decode cX6_evenRounds 7 = .ok (.invokestatic 254, 3) := dk_184 0 254 (dk_at dksX6_evenRounds_0 7 rfl rfl)
theorem dX6_evenRounds_10 : decode cX6_evenRounds 10 = .ok (.istore_n 1, 1) := dk_60 (dk_at dksX6_evenRounds_0 10 rfl rfl)
theorem dX6_evenRounds_11 : decode cX6_evenRounds 11 = .ok (.iload_n 1, 1) := dk_27 (dk_at dksX6_evenRounds_0 11 rfl rfl)
theorem dX6_evenRounds_12 : decode cX6_evenRounds 12 = .ok (.ifCond .ne 10, 3) := dk_154 0 10 (dk_at dksX6_evenRounds_0 12 rfl rfl)
theorem dX6_evenRounds_15 : decode cX6_evenRounds 15 = .ok (.aload_n 0, 1) := dk_42 (dk_at dksX6_evenRounds_0 15 rfl rfl)
theorem dX6_evenRounds_16 : decode cX6_evenRounds 16 = .ok (.bipush 6, 2) := dk_16 6 (dk_at dksX6_evenRounds_0 16 rfl rfl)
theorem dX6_evenRounds_18 : decode cX6_evenRounds 18 = .ok (.invokevirtual 75, 3) := dk_182 0 75 (dk_at dksX6_evenRounds_0 18 rfl rfl)
theorem dX6_evenRounds_21 : decode cX6_evenRounds 21 = .ok (.ireturn, 1) := dk_172 (dk_at dksX6_evenRounds_0 21 rfl rfl)
theorem dX6_evenRounds_22 : decode cX6_evenRounds 22 = .ok (.iconst 0, 1) := dk_3 (dk_at dksX6_evenRounds_0 22 rfl rfl)
theorem dX6_evenRounds_23 : decode cX6_evenRounds 23 = .ok (.istore_n 2, 1) := dk_61 (dk_at dksX6_evenRounds_0 23 rfl rfl)
theorem dX6_evenRounds_24 : decode cX6_evenRounds 24 = .ok (.iload_n 2, 1) := dk_28 (dk_at dksX6_evenRounds_1 0 rfl rfl)
theorem dX6_evenRounds_25 : decode cX6_evenRounds 25 = .ok (.aload_n 0, 1) := dk_42 (dk_at dksX6_evenRounds_1 1 rfl rfl)
theorem dX6_evenRounds_26 : decode cX6_evenRounds 26 = .ok (.getfield 7, 3) := dk_180 0 7 (dk_at dksX6_evenRounds_1 2 rfl rfl)
theorem dX6_evenRounds_29 : decode cX6_evenRounds 29 = .ok (.iconst 0, 1) := dk_3 (dk_at dksX6_evenRounds_1 5 rfl rfl)
theorem dX6_evenRounds_30 : decode cX6_evenRounds 30 = .ok (.iaload, 1) := dk_46 (dk_at dksX6_evenRounds_1 6 rfl rfl)
theorem dX6_evenRounds_31 : decode cX6_evenRounds 31 = .ok (.if_icmp .ge 20, 3) := dk_162 0 20 (dk_at dksX6_evenRounds_1 7 rfl rfl)
theorem dX6_evenRounds_34 : decode cX6_evenRounds 34 = .ok (.aload_n 0, 1) := dk_42 (dk_at dksX6_evenRounds_1 10 rfl rfl)
theorem dX6_evenRounds_35 : decode cX6_evenRounds 35 = .ok (.getfield 50, 3) := dk_180 0 50 (dk_at dksX6_evenRounds_1 11 rfl rfl)
theorem dX6_evenRounds_38 : decode cX6_evenRounds 38 = .ok (.iload_n 2, 1) := dk_28 (dk_at dksX6_evenRounds_1 14 rfl rfl)
theorem dX6_evenRounds_39 : decode cX6_evenRounds 39 = .ok (.aload_n 0, 1) := dk_42 (dk_at dksX6_evenRounds_1 15 rfl rfl)
theorem dX6_evenRounds_40 : decode cX6_evenRounds 40 = .ok (.iload_n 2, 1) := dk_28 (dk_at dksX6_evenRounds_1 16 rfl rfl)
theorem dX6_evenRounds_41 : decode cX6_evenRounds 41 = .ok (.invokevirtual 383, 3) := dk_182 1 127 (dk_at dksX6_evenRounds_1 17 rfl rfl)
theorem dX6_evenRounds_44 : decode cX6_evenRounds 44 = .ok (.iastore, 1) := dk_79 (dk_at dksX6_evenRounds_1 20 rfl rfl)
theorem dX6_evenRounds_45 : decode cX6_evenRounds 45 = .ok (.iinc 2 1, 3) := dk_132 2 1 (dk_at dksX6_evenRounds_1 21 rfl rfl)
theorem dX6_evenRounds_48 : decode cX6_evenRounds 48 = .ok (.goto (-24), 3) := dk_167 255 232 (dk_at dksX6_evenRounds_2 0 rfl rfl)
theorem dX6_evenRounds_51 : decode cX6_evenRounds 51 = .ok (.iconst 0, 1) := dk_3 (dk_at dksX6_evenRounds_2 3 rfl rfl)
theorem dX6_evenRounds_52 : decode cX6_evenRounds 52 = .ok (.istore_n 2, 1) := dk_61 (dk_at dksX6_evenRounds_2 4 rfl rfl)
theorem dX6_evenRounds_53 : decode cX6_evenRounds 53 = .ok (.iload_n 2, 1) := dk_28 (dk_at dksX6_evenRounds_2 5 rfl rfl)
theorem dX6_evenRounds_54 : decode cX6_evenRounds 54 = .ok (.bipush 60, 2) := dk_16 60 (dk_at dksX6_evenRounds_2 6 rfl rfl)
theorem dX6_evenRounds_56 : decode cX6_evenRounds 56 = .ok (.if_icmp .gt 173, 3) := dk_163 0 173 (dk_at dksX6_evenRounds_2 8 rfl rfl)
theorem dX6_evenRounds_59 : decode cX6_evenRounds 59 = .ok (.iconst (-1), 1) := dk_2 (dk_at dksX6_evenRounds_2 11 rfl rfl)
theorem dX6_evenRounds_60 : decode cX6_evenRounds 60 = .ok (.istore_n 3, 1) := dk_62 (dk_at dksX6_evenRounds_2 12 rfl rfl)
theorem dX6_evenRounds_61 : decode cX6_evenRounds 61 = .ok (.iconst 1, 1) := dk_4 (dk_at dksX6_evenRounds_2 13 rfl rfl)
theorem dX6_evenRounds_62 : decode cX6_evenRounds 62 = .ok (.istore 4, 2) := dk_54 4 (dk_at dksX6_evenRounds_2 14 rfl rfl)
theorem dX6_evenRounds_64 : decode cX6_evenRounds 64 = .ok (.iconst 0, 1) := dk_3 (dk_at dksX6_evenRounds_2 16 rfl rfl)
theorem dX6_evenRounds_65 : decode cX6_evenRounds 65 = .ok (.istore 5, 2) := dk_54 5 (dk_at dksX6_evenRounds_2 17 rfl rfl)
theorem dX6_evenRounds_67 : decode cX6_evenRounds 67 = .ok (.iload 5, 2) := dk_21 5 (dk_at dksX6_evenRounds_2 19 rfl rfl)
theorem dX6_evenRounds_69 : decode cX6_evenRounds 69 = .ok (.aload_n 0, 1) := dk_42 (dk_at dksX6_evenRounds_2 21 rfl rfl)
theorem dX6_evenRounds_70 : decode cX6_evenRounds 70 = .ok (.getfield 7, 3) := dk_180 0 7 (dk_at dksX6_evenRounds_3 0 rfl rfl)
theorem dX6_evenRounds_73 : decode cX6_evenRounds 73 = .ok (.iconst 0, 1) := dk_3 (dk_at dksX6_evenRounds_3 3 rfl rfl)
theorem dX6_evenRounds_74 : decode cX6_evenRounds 74 = .ok (.iaload, 1) := dk_46 (dk_at dksX6_evenRounds_3 4 rfl rfl)
theorem dX6_evenRounds_75 : decode cX6_evenRounds 75 = .ok (.if_icmp .ge 85, 3) := dk_162 0 85 (dk_at dksX6_evenRounds_3 5 rfl rfl)
theorem dX6_evenRounds_78 : decode cX6_evenRounds 78 = .ok (.aload_n 0, 1) := dk_42 (dk_at dksX6_evenRounds_3 8 rfl rfl)
theorem dX6_evenRounds_79 : decode cX6_evenRounds 79 = .ok (.aload_n 0, 1) := dk_42 (dk_at dksX6_evenRounds_3 9 rfl rfl)
theorem dX6_evenRounds_80 : decode cX6_evenRounds 80 = .ok (.getfield 7, 3) := dk_180 0 7 (dk_at dksX6_evenRounds_3 10 rfl rfl)
theorem dX6_evenRounds_83 : decode cX6_evenRounds 83 = .ok (.bipush 8, 2) := dk_16 8 (dk_at dksX6_evenRounds_3 13 rfl rfl)
theorem dX6_evenRounds_85 : decode cX6_evenRounds 85 = .ok (.iaload, 1) := dk_46 (dk_at dksX6_evenRounds_3 15 rfl rfl)
theorem dX6_evenRounds_86 : decode cX6_evenRounds 86 = .ok (.iload 5, 2) := dk_21 5 (dk_at dksX6_evenRounds_3 16 rfl rfl)
theorem dX6_evenRounds_88 : decode cX6_evenRounds 88 = .ok (.invokevirtual 270, 3) := dk_182 1 14 (dk_at dksX6_evenRounds_3 18 rfl rfl)
theorem dX6_evenRounds_91 : decode cX6_evenRounds 91 = .ok (.ifCond .ne 6, 3) := dk_154 0 6 (dk_at dksX6_evenRounds_3 21 rfl rfl)
theorem dX6_evenRounds_94 : decode cX6_evenRounds 94 = .ok (.goto 60, 3) := dk_167 0 60 (dk_at dksX6_evenRounds_4 0 rfl rfl)
theorem dX6_evenRounds_97 : decode cX6_evenRounds 97 = .ok (.iload 4, 2) := dk_21 4 (dk_at dksX6_evenRounds_4 3 rfl rfl)
theorem dX6_evenRounds_99 : decode cX6_evenRounds 99 = .ok (.ifCond .eq 28, 3) := dk_153 0 28 (dk_at dksX6_evenRounds_4 5 rfl rfl)
theorem dX6_evenRounds_102 : decode cX6_evenRounds 102 = .ok (.iload_n 3, 1) := dk_29 (dk_at dksX6_evenRounds_4 8 rfl rfl)
theorem dX6_evenRounds_103 : decode cX6_evenRounds 103 = .ok (.iconst (-1), 1) := dk_2 (dk_at dksX6_evenRounds_4 9 rfl rfl)
theorem dX6_evenRounds_104 : decode cX6_evenRounds 104 = .ok (.if_icmp .eq 19, 3) := dk_159 0 19 (dk_at dksX6_evenRounds_4 10 rfl rfl)
theorem dX6_evenRounds_107 : decode cX6_evenRounds 107 = .ok (.aload_n 0, 1) := dk_42 (dk_at dksX6_evenRounds_4 13 rfl rfl)
theorem dX6_evenRounds_108 : decode cX6_evenRounds 108 = .ok (.getfield 50, 3) := dk_180 0 50 (dk_at dksX6_evenRounds_4 14 rfl rfl)
theorem dX6_evenRounds_111 : decode cX6_evenRounds 111 = .ok (.iload 5, 2) := dk_21 5 (dk_at dksX6_evenRounds_4 17 rfl rfl)
theorem dX6_evenRounds_113 : decode cX6_evenRounds 113 = .ok (.iaload, 1) := dk_46 (dk_at dksX6_evenRounds_4 19 rfl rfl)
theorem dX6_evenRounds_114 : decode cX6_evenRounds 114 = .ok (.aload_n 0, 1) := dk_42 (dk_at dksX6_evenRounds_4 20 rfl rfl)
theorem dX6_evenRounds_115 : decode cX6_evenRounds 115 = .ok (.getfield 50, 3) := dk_180 0 50 (dk_at dksX6_evenRounds_4 21 rfl rfl)
theorem dX6_evenRounds_118 : decode cX6_evenRounds 118 = .ok (.iload_n 3, 1) := dk_29 (dk_at dksX6_evenRounds_5 0 rfl rfl)
theorem dX6_evenRounds_119 : decode cX6_evenRounds 119 = .ok (.iaload, 1) := dk_46 (dk_at dksX6_evenRounds_5 1 rfl rfl)
theorem dX6_evenRounds_120 : decode cX6_evenRounds 120 = .ok (.if_icmp .ne 7, 3) := dk_160 0 7 (dk_at dksX6_evenRounds_5 2 rfl rfl)
theorem dX6_evenRounds_123 : decode cX6_evenRounds 123 = .ok (.iconst 1, 1) := dk_4 (dk_at dksX6_evenRounds_5 5 rfl rfl)
theorem dX6_evenRounds_124 : decode cX6_evenRounds 124 = .ok (.goto 4, 3) := dk_167 0 4 (dk_at dksX6_evenRounds_5 6 rfl rfl)
theorem dX6_evenRounds_127 : decode cX6_evenRounds 127 = .ok (.iconst 0, 1) := dk_3 (dk_at dksX6_evenRounds_5 9 rfl rfl)
theorem dX6_evenRounds_128 : decode cX6_evenRounds 128 = .ok (.istore 4, 2) := dk_54 4 (dk_at dksX6_evenRounds_5 10 rfl rfl)
theorem dX6_evenRounds_130 : decode cX6_evenRounds 130 = .ok (.iload_n 3, 1) := dk_29 (dk_at dksX6_evenRounds_5 12 rfl rfl)
theorem dX6_evenRounds_131 : decode cX6_evenRounds 131 = .ok (.iconst (-1), 1) := dk_2 (dk_at dksX6_evenRounds_5 13 rfl rfl)
theorem dX6_evenRounds_132 : decode cX6_evenRounds 132 = .ok (.if_icmp .eq 19, 3) := dk_159 0 19 (dk_at dksX6_evenRounds_5 14 rfl rfl)
theorem dX6_evenRounds_135 : decode cX6_evenRounds 135 = .ok (.aload_n 0, 1) := dk_42 (dk_at dksX6_evenRounds_5 17 rfl rfl)
theorem dX6_evenRounds_136 : decode cX6_evenRounds 136 = .ok (.getfield 50, 3) := dk_180 0 50 (dk_at dksX6_evenRounds_5 18 rfl rfl)
theorem dX6_evenRounds_139 : decode cX6_evenRounds 139 = .ok (.iload 5, 2) := dk_21 5 (dk_at dksX6_evenRounds_5 21 rfl rfl)
theorem dX6_evenRounds_141 : decode cX6_evenRounds 141 = .ok (.iaload, 1) := dk_46 (dk_at dksX6_evenRounds_5 23 rfl rfl)
theorem dX6_evenRounds_142 : decode cX6_evenRounds 142 = .ok (.aload_n 0, 1) := dk_42 (dk_at dksX6_evenRounds_6 0 rfl rfl)
theorem dX6_evenRounds_143 : decode cX6_evenRounds 143 = .ok (.getfield 50, 3) := dk_180 0 50 (dk_at dksX6_evenRounds_6 1 rfl rfl)
theorem dX6_evenRounds_146 : decode cX6_evenRounds 146 = .ok (.iload_n 3, 1) := dk_29 (dk_at dksX6_evenRounds_6 4 rfl rfl)
theorem dX6_evenRounds_147 : decode cX6_evenRounds 147 = .ok (.iaload, 1) := dk_46 (dk_at dksX6_evenRounds_6 5 rfl rfl)
theorem dX6_evenRounds_148 : decode cX6_evenRounds 148 = .ok (.if_icmp .le 6, 3) := dk_164 0 6 (dk_at dksX6_evenRounds_6 6 rfl rfl)
theorem dX6_evenRounds_151 : decode cX6_evenRounds 151 = .ok (.iload 5, 2) := dk_21 5 (dk_at dksX6_evenRounds_6 9 rfl rfl)
theorem dX6_evenRounds_153 : decode cX6_evenRounds 153 = .ok (.istore_n 3, 1) := dk_62 (dk_at dksX6_evenRounds_6 11 rfl rfl)
theorem dX6_evenRounds_154 : decode cX6_evenRounds 154 = .ok (.iinc 5 1, 3) := dk_132 5 1 (dk_at dksX6_evenRounds_6 12 rfl rfl)
theorem dX6_evenRounds_157 : decode cX6_evenRounds 157 = .ok (.goto (-90), 3) := dk_167 255 166 (dk_at dksX6_evenRounds_6 15 rfl rfl)
theorem dX6_evenRounds_160 : decode cX6_evenRounds 160 = .ok (.iload 4, 2) := dk_21 4 (dk_at dksX6_evenRounds_6 18 rfl rfl)
theorem dX6_evenRounds_162 : decode cX6_evenRounds 162 = .ok (.ifCond .eq 9, 3) := dk_153 0 9 (dk_at dksX6_evenRounds_6 20 rfl rfl)
theorem dX6_evenRounds_165 : decode cX6_evenRounds 165 = .ok (.aload_n 0, 1) := dk_42 (dk_at dksX6_evenRounds_6 23 rfl rfl)
theorem dX6_evenRounds_166 : decode cX6_evenRounds 166 = .ok (.iload_n 2, 1) := dk_28 (dk_at dksX6_evenRounds_7 0 rfl rfl)
theorem dX6_evenRounds_167 : decode cX6_evenRounds 167 = .ok (.invokevirtual 79, 3) := dk_182 0 79 (dk_at dksX6_evenRounds_7 1 rfl rfl)
theorem dX6_evenRounds_170 : decode cX6_evenRounds 170 = .ok (.ireturn, 1) := dk_172 (dk_at dksX6_evenRounds_7 4 rfl rfl)
theorem dX6_evenRounds_171 : decode cX6_evenRounds 171 = .ok (.iconst 0, 1) := dk_3 (dk_at dksX6_evenRounds_7 5 rfl rfl)
theorem dX6_evenRounds_172 : decode cX6_evenRounds 172 = .ok (.istore 5, 2) := dk_54 5 (dk_at dksX6_evenRounds_7 6 rfl rfl)
theorem dX6_evenRounds_174 : decode cX6_evenRounds 174 = .ok (.iload 5, 2) := dk_21 5 (dk_at dksX6_evenRounds_7 8 rfl rfl)
theorem dX6_evenRounds_176 : decode cX6_evenRounds 176 = .ok (.aload_n 0, 1) := dk_42 (dk_at dksX6_evenRounds_7 10 rfl rfl)
theorem dX6_evenRounds_177 : decode cX6_evenRounds 177 = .ok (.getfield 7, 3) := dk_180 0 7 (dk_at dksX6_evenRounds_7 11 rfl rfl)
theorem dX6_evenRounds_180 : decode cX6_evenRounds 180 = .ok (.iconst 0, 1) := dk_3 (dk_at dksX6_evenRounds_7 14 rfl rfl)
theorem dX6_evenRounds_181 : decode cX6_evenRounds 181 = .ok (.iaload, 1) := dk_46 (dk_at dksX6_evenRounds_7 15 rfl rfl)
theorem dX6_evenRounds_182 : decode cX6_evenRounds 182 = .ok (.if_icmp .ge 31, 3) := dk_162 0 31 (dk_at dksX6_evenRounds_7 16 rfl rfl)
theorem dX6_evenRounds_185 : decode cX6_evenRounds 185 = .ok (.aload_n 0, 1) := dk_42 (dk_at dksX6_evenRounds_7 19 rfl rfl)
theorem dX6_evenRounds_186 : decode cX6_evenRounds 186 = .ok (.getfield 50, 3) := dk_180 0 50 (dk_at dksX6_evenRounds_7 20 rfl rfl)
theorem dX6_evenRounds_189 : decode cX6_evenRounds 189 = .ok (.iload 5, 2) := dk_21 5 (dk_at dksX6_evenRounds_8 0 rfl rfl)
theorem dX6_evenRounds_191 : decode cX6_evenRounds 191 = .ok (.dup2, 1) := dk_92 (dk_at dksX6_evenRounds_8 2 rfl rfl)
theorem dX6_evenRounds_192 : decode cX6_evenRounds 192 = .ok (.iaload, 1) := dk_46 (dk_at dksX6_evenRounds_8 3 rfl rfl)
theorem dX6_evenRounds_193 : decode cX6_evenRounds 193 = .ok (.aload_n 0, 1) := dk_42 (dk_at dksX6_evenRounds_8 4 rfl rfl)
theorem dX6_evenRounds_194 : decode cX6_evenRounds 194 = .ok (.getfield 7, 3) := dk_180 0 7 (dk_at dksX6_evenRounds_8 5 rfl rfl)
theorem dX6_evenRounds_197 : decode cX6_evenRounds 197 = .ok (.bipush 8, 2) := dk_16 8 (dk_at dksX6_evenRounds_8 8 rfl rfl)
theorem dX6_evenRounds_199 : decode cX6_evenRounds 199 = .ok (.iaload, 1) := dk_46 (dk_at dksX6_evenRounds_8 10 rfl rfl)
theorem dX6_evenRounds_200 : decode cX6_evenRounds 200 = .ok (.iload 5, 2) := dk_21 5 (dk_at dksX6_evenRounds_8 11 rfl rfl)
theorem dX6_evenRounds_202 : decode cX6_evenRounds 202 = .ok (.ishr, 1) := dk_122 (dk_at dksX6_evenRounds_8 13 rfl rfl)
theorem dX6_evenRounds_203 : decode cX6_evenRounds 203 = .ok (.iconst 1, 1) := dk_4 (dk_at dksX6_evenRounds_8 14 rfl rfl)
theorem dX6_evenRounds_204 : decode cX6_evenRounds 204 = .ok (.iand, 1) := dk_126 (dk_at dksX6_evenRounds_8 15 rfl rfl)
theorem dX6_evenRounds_205 : decode cX6_evenRounds 205 = .ok (.iadd, 1) := dk_96 (dk_at dksX6_evenRounds_8 16 rfl rfl)
theorem dX6_evenRounds_206 : decode cX6_evenRounds 206 = .ok (.iastore, 1) := dk_79 (dk_at dksX6_evenRounds_8 17 rfl rfl)
theorem dX6_evenRounds_207 : decode cX6_evenRounds 207 = .ok (.iinc 5 1, 3) := dk_132 5 1 (dk_at dksX6_evenRounds_8 18 rfl rfl)
theorem dX6_evenRounds_210 : decode cX6_evenRounds 210 = .ok (.goto (-36), 3) := dk_167 255 220 (dk_at dksX6_evenRounds_8 21 rfl rfl)
theorem dX6_evenRounds_213 : decode cX6_evenRounds 213 = .ok (.aload_n 0, 1) := dk_42 (dk_at dksX6_evenRounds_9 0 rfl rfl)
theorem dX6_evenRounds_214 : decode cX6_evenRounds 214 = .ok (.getfield 50, 3) := dk_180 0 50 (dk_at dksX6_evenRounds_9 1 rfl rfl)
theorem dX6_evenRounds_217 : decode cX6_evenRounds 217 = .ok (.iload_n 3, 1) := dk_29 (dk_at dksX6_evenRounds_9 4 rfl rfl)
theorem dX6_evenRounds_218 : decode cX6_evenRounds 218 = .ok (.dup2, 1) := dk_92 (dk_at dksX6_evenRounds_9 5 rfl rfl)
theorem dX6_evenRounds_219 : decode cX6_evenRounds 219 = .ok (.iaload, 1) := dk_46 (dk_at dksX6_evenRounds_9 6 rfl rfl)
theorem dX6_evenRounds_220 : decode cX6_evenRounds 220 = .ok (.iload_n 1, 1) := dk_27 (dk_at dksX6_evenRounds_9 7 rfl rfl)
theorem dX6_evenRounds_221 : decode cX6_evenRounds 221 = .ok (.isub, 1) := dk_100 (dk_at dksX6_evenRounds_9 8 rfl rfl)
theorem dX6_evenRounds_222 : decode cX6_evenRounds 222 = .ok (.iastore, 1) := dk_79 (dk_at dksX6_evenRounds_9 9 rfl rfl)
theorem dX6_evenRounds_223 : decode cX6_evenRounds 223 = .ok (.iinc 2 1, 3) := dk_132 2 1 (dk_at dksX6_evenRounds_9 10 rfl rfl)
theorem dX6_evenRounds_226 : decode cX6_evenRounds 226 = .ok (.goto (-173), 3) := dk_167 255 83 (dk_at dksX6_evenRounds_9 13 rfl rfl)
theorem dX6_evenRounds_229 : decode cX6_evenRounds 229 = .ok (.aload_n 0, 1) := dk_42 (dk_at dksX6_evenRounds_9 16 rfl rfl)
theorem dX6_evenRounds_230 : decode cX6_evenRounds 230 = .ok (.bipush 6, 2) := dk_16 6 (dk_at dksX6_evenRounds_9 17 rfl rfl)
theorem dX6_evenRounds_232 : decode cX6_evenRounds 232 = .ok (.invokevirtual 75, 3) := dk_182 0 75 (dk_at dksX6_evenRounds_9 19 rfl rfl)
theorem dX6_evenRounds_235 : decode cX6_evenRounds 235 = .ok (.ireturn, 1) := dk_172 (dk_at dksX6_evenRounds_9 22 rfl rfl)
abbrev cX6_giftAt : ByteArray := prog_16_method_133_code
def yX6_giftAt : MethodName := ⟨RX6, "giftAt", "(III)I"⟩
def dkwX6_giftAt_3 : List UInt8 := [16, 7, 182, 0, 75, 167, 0, 9, 42, 21, 4, 182, 0, 79, 172]
abbrev dktX6_giftAt_3 : List UInt8 := dkwX6_giftAt_3 ++ []
def dkwX6_giftAt_2 : List UInt8 := [21, 4, 28, 184, 1, 143, 54, 4, 132, 5, 1, 167, 255, 231, 21, 4, 19, 1, 59, 164, 0, 12, 42]
abbrev dktX6_giftAt_2 : List UInt8 := dkwX6_giftAt_2 ++ dktX6_giftAt_3
def dkwX6_giftAt_1 : List UInt8 := [182, 0, 75, 172, 27, 54, 4, 3, 54, 5, 21, 5, 29, 162, 0, 25, 21, 4, 19, 1, 59, 163, 0, 17]
abbrev dktX6_giftAt_1 : List UInt8 := dkwX6_giftAt_1 ++ dktX6_giftAt_2
def dkwX6_giftAt_0 : List UInt8 := [42, 27, 28, 182, 1, 138, 153, 0, 15, 29, 133, 9, 20, 1, 141, 184, 1, 46, 154, 0, 9, 42, 4]
abbrev dktX6_giftAt_0 : List UInt8 := dkwX6_giftAt_0 ++ dktX6_giftAt_1
theorem dksX6_giftAt_0 : cX6_giftAt.data.toList.drop 0 = dktX6_giftAt_0 := by decide +kernel
theorem dksX6_giftAt_1 : cX6_giftAt.data.toList.drop 23 = dktX6_giftAt_1 := dk_seg dksX6_giftAt_0 23 rfl rfl
theorem dksX6_giftAt_2 : cX6_giftAt.data.toList.drop 47 = dktX6_giftAt_2 := dk_seg dksX6_giftAt_1 24 rfl rfl
theorem dksX6_giftAt_3 : cX6_giftAt.data.toList.drop 70 = dktX6_giftAt_3 := dk_seg dksX6_giftAt_2 23 rfl rfl
theorem dX6_giftAt_0 : decode cX6_giftAt 0 = .ok (.aload_n 0, 1) := dk_42 (dk_at dksX6_giftAt_0 0 rfl rfl)
theorem dX6_giftAt_1 : decode cX6_giftAt 1 = .ok (.iload_n 1, 1) := dk_27 (dk_at dksX6_giftAt_0 1 rfl rfl)
theorem dX6_giftAt_2 : decode cX6_giftAt 2 = .ok (.iload_n 2, 1) := dk_28 (dk_at dksX6_giftAt_0 2 rfl rfl)
theorem dX6_giftAt_3 : decode cX6_giftAt 3 = .ok (.invokevirtual 394, 3) := dk_182 1 138 (dk_at dksX6_giftAt_0 3 rfl rfl)
theorem dX6_giftAt_6 : decode cX6_giftAt 6 = .ok (.ifCond .eq 15, 3) := dk_153 0 15 (dk_at dksX6_giftAt_0 6 rfl rfl)
theorem dX6_giftAt_9 : decode cX6_giftAt 9 = .ok (.iload_n 3, 1) := dk_29 (dk_at dksX6_giftAt_0 9 rfl rfl)
theorem dX6_giftAt_10 : decode cX6_giftAt 10 = .ok (.i2l, 1) := dk_133 (dk_at dksX6_giftAt_0 10 rfl rfl)
theorem dX6_giftAt_11 : decode cX6_giftAt 11 = .ok (.lconst 0, 1) := dk_9 (dk_at dksX6_giftAt_0 11 rfl rfl)
theorem dX6_giftAt_12 : decode cX6_giftAt 12 = .ok (.ldc2_w 397, 3) := dk_20 1 141 (dk_at dksX6_giftAt_0 12 rfl rfl)
theorem dX6_giftAt_15 : decode cX6_giftAt 15 = .ok (.invokestatic 302, 3) := dk_184 1 46 (dk_at dksX6_giftAt_0 15 rfl rfl)
theorem dX6_giftAt_18 : decode cX6_giftAt 18 = .ok (.ifCond .ne 9, 3) := dk_154 0 9 (dk_at dksX6_giftAt_0 18 rfl rfl)
theorem dX6_giftAt_21 : decode cX6_giftAt 21 = .ok (.aload_n 0, 1) := dk_42 (dk_at dksX6_giftAt_0 21 rfl rfl)
theorem dX6_giftAt_22 : decode cX6_giftAt 22 = .ok (.iconst 1, 1) := dk_4 (dk_at dksX6_giftAt_0 22 rfl rfl)
theorem dX6_giftAt_23 : decode cX6_giftAt 23 = .ok (.invokevirtual 75, 3) := dk_182 0 75 (dk_at dksX6_giftAt_1 0 rfl rfl)
theorem dX6_giftAt_26 : decode cX6_giftAt 26 = .ok (.ireturn, 1) := dk_172 (dk_at dksX6_giftAt_1 3 rfl rfl)
theorem dX6_giftAt_27 : decode cX6_giftAt 27 = .ok (.iload_n 1, 1) := dk_27 (dk_at dksX6_giftAt_1 4 rfl rfl)
theorem dX6_giftAt_28 : decode cX6_giftAt 28 = .ok (.istore 4, 2) := dk_54 4 (dk_at dksX6_giftAt_1 5 rfl rfl)
theorem dX6_giftAt_30 : decode cX6_giftAt 30 = .ok (.iconst 0, 1) := dk_3 (dk_at dksX6_giftAt_1 7 rfl rfl)
theorem dX6_giftAt_31 : decode cX6_giftAt 31 = .ok (.istore 5, 2) := dk_54 5 (dk_at dksX6_giftAt_1 8 rfl rfl)
theorem dX6_giftAt_33 : decode cX6_giftAt 33 = .ok (.iload 5, 2) := dk_21 5 (dk_at dksX6_giftAt_1 10 rfl rfl)
theorem dX6_giftAt_35 : decode cX6_giftAt 35 = .ok (.iload_n 3, 1) := dk_29 (dk_at dksX6_giftAt_1 12 rfl rfl)
theorem dX6_giftAt_36 : decode cX6_giftAt 36 = .ok (.if_icmp .ge 25, 3) := dk_162 0 25 (dk_at dksX6_giftAt_1 13 rfl rfl)
theorem dX6_giftAt_39 : decode cX6_giftAt 39 = .ok (.iload 4, 2) := dk_21 4 (dk_at dksX6_giftAt_1 16 rfl rfl)
theorem dX6_giftAt_41 : decode cX6_giftAt 41 = .ok (.ldc_w 315, 3) := dk_19 1 59 (dk_at dksX6_giftAt_1 18 rfl rfl)
theorem dX6_giftAt_44 : decode cX6_giftAt 44 = .ok (.if_icmp .gt 17, 3) := dk_163 0 17 (dk_at dksX6_giftAt_1 21 rfl rfl)
theorem dX6_giftAt_47 : decode cX6_giftAt 47 = .ok (.iload 4, 2) := dk_21 4 (dk_at dksX6_giftAt_2 0 rfl rfl)
theorem dX6_giftAt_49 : decode cX6_giftAt 49 = .ok (.iload_n 2, 1) := dk_28 (dk_at dksX6_giftAt_2 2 rfl rfl)
theorem dX6_giftAt_50 : decode cX6_giftAt 50 = .ok (.invokestatic 399, 3) := dk_184 1 143 (dk_at dksX6_giftAt_2 3 rfl rfl)
theorem dX6_giftAt_53 : decode cX6_giftAt 53 = .ok (.istore 4, 2) := dk_54 4 (dk_at dksX6_giftAt_2 6 rfl rfl)
theorem dX6_giftAt_55 : decode cX6_giftAt 55 = .ok (.iinc 5 1, 3) := dk_132 5 1 (dk_at dksX6_giftAt_2 8 rfl rfl)
theorem dX6_giftAt_58 : decode cX6_giftAt 58 = .ok (.goto (-25), 3) := dk_167 255 231 (dk_at dksX6_giftAt_2 11 rfl rfl)
theorem dX6_giftAt_61 : decode cX6_giftAt 61 = .ok (.iload 4, 2) := dk_21 4 (dk_at dksX6_giftAt_2 14 rfl rfl)
theorem dX6_giftAt_63 : decode cX6_giftAt 63 = .ok (.ldc_w 315, 3) := dk_19 1 59 (dk_at dksX6_giftAt_2 16 rfl rfl)
theorem dX6_giftAt_66 : decode cX6_giftAt 66 = .ok (.if_icmp .le 12, 3) := dk_164 0 12 (dk_at dksX6_giftAt_2 19 rfl rfl)
theorem dX6_giftAt_69 : decode cX6_giftAt 69 = .ok (.aload_n 0, 1) := dk_42 (dk_at dksX6_giftAt_2 22 rfl rfl)
theorem dX6_giftAt_70 : decode cX6_giftAt 70 = .ok (.bipush 7, 2) := dk_16 7 (dk_at dksX6_giftAt_3 0 rfl rfl)
theorem dX6_giftAt_72 : decode cX6_giftAt 72 = .ok (.invokevirtual 75, 3) := dk_182 0 75 (dk_at dksX6_giftAt_3 2 rfl rfl)
theorem dX6_giftAt_75 : decode cX6_giftAt 75 = .ok (.goto 9, 3) := dk_167 0 9 (dk_at dksX6_giftAt_3 5 rfl rfl)
theorem dX6_giftAt_78 : decode cX6_giftAt 78 = .ok (.aload_n 0, 1) := dk_42 (dk_at dksX6_giftAt_3 8 rfl rfl)
theorem dX6_giftAt_79 : decode cX6_giftAt 79 = .ok (.iload 4, 2) := dk_21 4 (dk_at dksX6_giftAt_3 9 rfl rfl)
theorem dX6_giftAt_81 : decode cX6_giftAt 81 = .ok (.invokevirtual 79, 3) := dk_182 0 79 (dk_at dksX6_giftAt_3 11 rfl rfl)
theorem dX6_giftAt_84 : decode cX6_giftAt 84 = .ok (.ireturn, 1) := dk_172 (dk_at dksX6_giftAt_3 14 rfl rfl)
abbrev cX6_areGifts : ByteArray := prog_16_method_132_code
def yX6_areGifts : MethodName := ⟨RX6, "areGifts", "(II)Z"⟩
def dkwX6_areGifts_1 : List UInt8 := [4, 167, 0, 4, 3, 172]
abbrev dktX6_areGifts_1 : List UInt8 := dkwX6_areGifts_1 ++ []
def dkwX6_areGifts_0 : List UInt8 := [27, 133, 10, 20, 1, 44, 184, 1, 46, 153, 0, 19, 28, 133, 9, 20, 1, 136, 184, 1, 46, 153, 0, 7]
abbrev dktX6_areGifts_0 : List UInt8 := dkwX6_areGifts_0 ++ dktX6_areGifts_1
theorem dksX6_areGifts_0 : cX6_areGifts.data.toList.drop 0 = dktX6_areGifts_0 := by decide +kernel
theorem dksX6_areGifts_1 : cX6_areGifts.data.toList.drop 24 = dktX6_areGifts_1 := dk_seg dksX6_areGifts_0 24 rfl rfl
theorem dX6_areGifts_0 : decode cX6_areGifts 0 = .ok (.iload_n 1, 1) := dk_27 (dk_at dksX6_areGifts_0 0 rfl rfl)
theorem dX6_areGifts_1 : decode cX6_areGifts 1 = .ok (.i2l, 1) := dk_133 (dk_at dksX6_areGifts_0 1 rfl rfl)
theorem dX6_areGifts_2 : decode cX6_areGifts 2 = .ok (.lconst 1, 1) := dk_10 (dk_at dksX6_areGifts_0 2 rfl rfl)
theorem dX6_areGifts_3 : decode cX6_areGifts 3 = .ok (.ldc2_w 300, 3) := dk_20 1 44 (dk_at dksX6_areGifts_0 3 rfl rfl)
theorem dX6_areGifts_6 : decode cX6_areGifts 6 = .ok (.invokestatic 302, 3) := dk_184 1 46 (dk_at dksX6_areGifts_0 6 rfl rfl)
theorem dX6_areGifts_9 : decode cX6_areGifts 9 = .ok (.ifCond .eq 19, 3) := dk_153 0 19 (dk_at dksX6_areGifts_0 9 rfl rfl)
theorem dX6_areGifts_12 : decode cX6_areGifts 12 = .ok (.iload_n 2, 1) := dk_28 (dk_at dksX6_areGifts_0 12 rfl rfl)
theorem dX6_areGifts_13 : decode cX6_areGifts 13 = .ok (.i2l, 1) := dk_133 (dk_at dksX6_areGifts_0 13 rfl rfl)
theorem dX6_areGifts_14 : decode cX6_areGifts 14 = .ok (.lconst 0, 1) := dk_9 (dk_at dksX6_areGifts_0 14 rfl rfl)
theorem dX6_areGifts_15 : decode cX6_areGifts 15 = .ok (.ldc2_w 392, 3) := dk_20 1 136 (dk_at dksX6_areGifts_0 15 rfl rfl)
theorem dX6_areGifts_18 : decode cX6_areGifts 18 = .ok (.invokestatic 302, 3) := dk_184 1 46 (dk_at dksX6_areGifts_0 18 rfl rfl)
theorem dX6_areGifts_21 : decode cX6_areGifts 21 = .ok (.ifCond .eq 7, 3) := dk_153 0 7 (dk_at dksX6_areGifts_0 21 rfl rfl)
theorem dX6_areGifts_24 : decode cX6_areGifts 24 = .ok (.iconst 1, 1) := dk_4 (dk_at dksX6_areGifts_1 0 rfl rfl)
theorem dX6_areGifts_25 : decode cX6_areGifts 25 = .ok (.goto 4, 3) := dk_167 0 4 (dk_at dksX6_areGifts_1 1 rfl rfl)
theorem dX6_areGifts_28 : decode cX6_areGifts 28 = .ok (.iconst 0, 1) := dk_3 (dk_at dksX6_areGifts_1 4 rfl rfl)
theorem dX6_areGifts_29 : decode cX6_areGifts 29 = .ok (.ireturn, 1) := dk_172 (dk_at dksX6_areGifts_1 5 rfl rfl)
abbrev cX6_nextGift : ByteArray := prog_16_method_131_code
def yX6_nextGift : MethodName := ⟨RX6, "nextGift", "(II)I"⟩
def dkwX6_nextGift_0 : List UInt8 := [26, 26, 133, 27, 133, 105, 20, 1, 136, 109, 136, 96, 4, 96, 172]
abbrev dktX6_nextGift_0 : List UInt8 := dkwX6_nextGift_0 ++ []
theorem dksX6_nextGift_0 : cX6_nextGift.data.toList.drop 0 = dktX6_nextGift_0 := by decide +kernel
theorem dX6_nextGift_0 : decode cX6_nextGift 0 = .ok (.iload_n 0, 1) := dk_26 (dk_at dksX6_nextGift_0 0 rfl rfl)
theorem dX6_nextGift_1 : decode cX6_nextGift 1 = .ok (.iload_n 0, 1) := dk_26 (dk_at dksX6_nextGift_0 1 rfl rfl)
theorem dX6_nextGift_2 : decode cX6_nextGift 2 = .ok (.i2l, 1) := dk_133 (dk_at dksX6_nextGift_0 2 rfl rfl)
theorem dX6_nextGift_3 : decode cX6_nextGift 3 = .ok (.iload_n 1, 1) := dk_27 (dk_at dksX6_nextGift_0 3 rfl rfl)
theorem dX6_nextGift_4 : decode cX6_nextGift 4 = .ok (.i2l, 1) := dk_133 (dk_at dksX6_nextGift_0 4 rfl rfl)
theorem dX6_nextGift_5 : decode cX6_nextGift 5 = .ok (.lmul, 1) := dk_105 (dk_at dksX6_nextGift_0 5 rfl rfl)
theorem dX6_nextGift_6 : decode cX6_nextGift 6 = .ok (.ldc2_w 392, 3) := dk_20 1 136 (dk_at dksX6_nextGift_0 6 rfl rfl)
theorem dX6_nextGift_9 : decode cX6_nextGift 9 = .ok (.ldiv, 1) := dk_109 (dk_at dksX6_nextGift_0 9 rfl rfl)
theorem dX6_nextGift_10 : decode cX6_nextGift 10 = .ok (.l2i, 1) := dk_136 (dk_at dksX6_nextGift_0 10 rfl rfl)
theorem dX6_nextGift_11 : decode cX6_nextGift 11 = .ok (.iadd, 1) := dk_96 (dk_at dksX6_nextGift_0 11 rfl rfl)
theorem dX6_nextGift_12 : decode cX6_nextGift 12 = .ok (.iconst 1, 1) := dk_4 (dk_at dksX6_nextGift_0 12 rfl rfl)
theorem dX6_nextGift_13 : decode cX6_nextGift 13 = .ok (.iadd, 1) := dk_96 (dk_at dksX6_nextGift_0 13 rfl rfl)
theorem dX6_nextGift_14 : decode cX6_nextGift 14 = .ok (.ireturn, 1) := dk_172 (dk_at dksX6_nextGift_0 14 rfl rfl)
abbrev cX6_ends : ByteArray := prog_16_method_135_code
def yX6_ends : MethodName := ⟨RX6, "ends", "(IIII)I"⟩
def dkwX6_ends_1 : List UInt8 := [21, 4, 182, 1, 149, 182, 0, 79, 167, 0, 8, 42, 4, 182, 0, 75, 172]
abbrev dktX6_ends_1 : List UInt8 := dkwX6_ends_1 ++ []
def dkwX6_ends_0 : List UInt8 := [42, 27, 28, 182, 1, 75, 153, 0, 29, 42, 29, 21, 4, 182, 1, 138, 153, 0, 19, 42, 42, 27, 28, 29]
abbrev dktX6_ends_0 : List UInt8 := dkwX6_ends_0 ++ dktX6_ends_1
theorem dksX6_ends_0 : cX6_ends.data.toList.drop 0 = dktX6_ends_0 := by decide +kernel
theorem dksX6_ends_1 : cX6_ends.data.toList.drop 24 = dktX6_ends_1 := dk_seg dksX6_ends_0 24 rfl rfl
theorem dX6_ends_0 : decode cX6_ends 0 = .ok (.aload_n 0, 1) := dk_42 (dk_at dksX6_ends_0 0 rfl rfl)
theorem dX6_ends_1 : decode cX6_ends 1 = .ok (.iload_n 1, 1) := dk_27 (dk_at dksX6_ends_0 1 rfl rfl)
theorem dX6_ends_2 : decode cX6_ends 2 = .ok (.iload_n 2, 1) := dk_28 (dk_at dksX6_ends_0 2 rfl rfl)
theorem dX6_ends_3 : decode cX6_ends 3 = .ok (.invokevirtual 331, 3) := dk_182 1 75 (dk_at dksX6_ends_0 3 rfl rfl)
theorem dX6_ends_6 : decode cX6_ends 6 = .ok (.ifCond .eq 29, 3) := dk_153 0 29 (dk_at dksX6_ends_0 6 rfl rfl)
theorem dX6_ends_9 : decode cX6_ends 9 = .ok (.aload_n 0, 1) := dk_42 (dk_at dksX6_ends_0 9 rfl rfl)
theorem dX6_ends_10 : decode cX6_ends 10 = .ok (.iload_n 3, 1) := dk_29 (dk_at dksX6_ends_0 10 rfl rfl)
theorem dX6_ends_11 : decode cX6_ends 11 = .ok (.iload 4, 2) := dk_21 4 (dk_at dksX6_ends_0 11 rfl rfl)
theorem dX6_ends_13 : decode cX6_ends 13 = .ok (.invokevirtual 394, 3) := dk_182 1 138 (dk_at dksX6_ends_0 13 rfl rfl)
theorem dX6_ends_16 : decode cX6_ends 16 = .ok (.ifCond .eq 19, 3) := dk_153 0 19 (dk_at dksX6_ends_0 16 rfl rfl)
theorem dX6_ends_19 : decode cX6_ends 19 = .ok (.aload_n 0, 1) := dk_42 (dk_at dksX6_ends_0 19 rfl rfl)
theorem dX6_ends_20 : decode cX6_ends 20 = .ok (.aload_n 0, 1) := dk_42 (dk_at dksX6_ends_0 20 rfl rfl)
theorem dX6_ends_21 : decode cX6_ends 21 = .ok (.iload_n 1, 1) := dk_27 (dk_at dksX6_ends_0 21 rfl rfl)
theorem dX6_ends_22 : decode cX6_ends 22 = .ok (.iload_n 2, 1) := dk_28 (dk_at dksX6_ends_0 22 rfl rfl)
theorem dX6_ends_23 : decode cX6_ends 23 = .ok (.iload_n 3, 1) := dk_29 (dk_at dksX6_ends_0 23 rfl rfl)
theorem dX6_ends_24 : decode cX6_ends 24 = .ok (.iload 4, 2) := dk_21 4 (dk_at dksX6_ends_1 0 rfl rfl)
theorem dX6_ends_26 : decode cX6_ends 26 = .ok (.invokevirtual 405, 3) := dk_182 1 149 (dk_at dksX6_ends_1 2 rfl rfl)
theorem dX6_ends_29 : decode cX6_ends 29 = .ok (.invokevirtual 79, 3) := dk_182 0 79 (dk_at dksX6_ends_1 5 rfl rfl)
theorem dX6_ends_32 : decode cX6_ends 32 = .ok (.goto 8, 3) := dk_167 0 8 (dk_at dksX6_ends_1 8 rfl rfl)
theorem dX6_ends_35 : decode cX6_ends 35 = .ok (.aload_n 0, 1) := dk_42 (dk_at dksX6_ends_1 11 rfl rfl)
theorem dX6_ends_36 : decode cX6_ends 36 = .ok (.iconst 1, 1) := dk_4 (dk_at dksX6_ends_1 12 rfl rfl)
theorem dX6_ends_37 : decode cX6_ends 37 = .ok (.invokevirtual 75, 3) := dk_182 0 75 (dk_at dksX6_ends_1 13 rfl rfl)
theorem dX6_ends_40 : decode cX6_ends 40 = .ok (.ireturn, 1) := dk_172 (dk_at dksX6_ends_1 16 rfl rfl)
abbrev cX6_endOf : ByteArray := prog_16_method_134_code
def yX6_endOf : MethodName := ⟨RX6, "endOf", "(IIII)I"⟩
def dkwX6_endOf_2 : List UInt8 := [181, 1, 146, 21, 5, 21, 4, 184, 1, 143, 54, 5, 132, 6, 1, 167, 255, 206, 21, 6, 172]
abbrev dktX6_endOf_2 : List UInt8 := dkwX6_endOf_2 ++ []
def dkwX6_endOf_1 : List UInt8 := [27, 167, 0, 4, 28, 184, 1, 11, 6, 96, 46, 163, 0, 29, 42, 89, 180, 1, 146, 21, 5, 96]
abbrev dktX6_endOf_1 : List UInt8 := dkwX6_endOf_1 ++ dktX6_endOf_2
def dkwX6_endOf_0 : List UInt8 := [29, 54, 5, 3, 54, 6, 42, 3, 181, 1, 146, 21, 5, 42, 180, 0, 7, 21, 6, 5, 112, 154, 0, 7]
abbrev dktX6_endOf_0 : List UInt8 := dkwX6_endOf_0 ++ dktX6_endOf_1
theorem dksX6_endOf_0 : cX6_endOf.data.toList.drop 0 = dktX6_endOf_0 := by decide +kernel
theorem dksX6_endOf_1 : cX6_endOf.data.toList.drop 24 = dktX6_endOf_1 := dk_seg dksX6_endOf_0 24 rfl rfl
theorem dksX6_endOf_2 : cX6_endOf.data.toList.drop 46 = dktX6_endOf_2 := dk_seg dksX6_endOf_1 22 rfl rfl
theorem dX6_endOf_0 : decode cX6_endOf 0 = .ok (.iload_n 3, 1) := dk_29 (dk_at dksX6_endOf_0 0 rfl rfl)
theorem dX6_endOf_1 : decode cX6_endOf 1 = .ok (.istore 5, 2) := dk_54 5 (dk_at dksX6_endOf_0 1 rfl rfl)
theorem dX6_endOf_3 : decode cX6_endOf 3 = .ok (.iconst 0, 1) := dk_3 (dk_at dksX6_endOf_0 3 rfl rfl)
theorem dX6_endOf_4 : decode cX6_endOf 4 = .ok (.istore 6, 2) := dk_54 6 (dk_at dksX6_endOf_0 4 rfl rfl)
theorem dX6_endOf_6 : decode cX6_endOf 6 = .ok (.aload_n 0, 1) := dk_42 (dk_at dksX6_endOf_0 6 rfl rfl)
theorem dX6_endOf_7 : decode cX6_endOf 7 = .ok (.iconst 0, 1) := dk_3 (dk_at dksX6_endOf_0 7 rfl rfl)
theorem dX6_endOf_8 : decode cX6_endOf 8 = .ok (.putfield 402, 3) := dk_181 1 146 (dk_at dksX6_endOf_0 8 rfl rfl)
theorem dX6_endOf_11 : decode cX6_endOf 11 = .ok (.iload 5, 2) := dk_21 5 (dk_at dksX6_endOf_0 11 rfl rfl)
theorem dX6_endOf_13 : decode cX6_endOf 13 = .ok (.aload_n 0, 1) := dk_42 (dk_at dksX6_endOf_0 13 rfl rfl)
theorem dX6_endOf_14 : decode cX6_endOf 14 = .ok (.getfield 7, 3) := dk_180 0 7 (dk_at dksX6_endOf_0 14 rfl rfl)
theorem dX6_endOf_17 : decode cX6_endOf 17 = .ok (.iload 6, 2) := dk_21 6 (dk_at dksX6_endOf_0 17 rfl rfl)
theorem dX6_endOf_19 : decode cX6_endOf 19 = .ok (.iconst 2, 1) := dk_5 (dk_at dksX6_endOf_0 19 rfl rfl)
theorem dX6_endOf_20 : decode cX6_endOf 20 = .ok (.irem, 1) := dk_112 (dk_at dksX6_endOf_0 20 rfl rfl)
theorem dX6_endOf_21 : decode cX6_endOf 21 = .ok (.ifCond .ne 7, 3) := dk_154 0 7 (dk_at dksX6_endOf_0 21 rfl rfl)
theorem dX6_endOf_24 : decode cX6_endOf 24 = .ok (.iload_n 1, 1) := dk_27 (dk_at dksX6_endOf_1 0 rfl rfl)
theorem dX6_endOf_25 : decode cX6_endOf 25 = .ok (.goto 4, 3) := dk_167 0 4 (dk_at dksX6_endOf_1 1 rfl rfl)
theorem dX6_endOf_28 : decode cX6_endOf 28 = .ok (.iload_n 2, 1) := dk_28 (dk_at dksX6_endOf_1 4 rfl rfl)
theorem dX6_endOf_29 : decode cX6_endOf 29 = .ok (.invokestatic 267, 3) := dk_184 1 11 (dk_at dksX6_endOf_1 5 rfl rfl)
theorem dX6_endOf_32 : decode cX6_endOf 32 = .ok (.iconst 3, 1) := dk_6 (dk_at dksX6_endOf_1 8 rfl rfl)
theorem dX6_endOf_33 : decode cX6_endOf 33 = .ok (.iadd, 1) := dk_96 (dk_at dksX6_endOf_1 9 rfl rfl)
theorem dX6_endOf_34 : decode cX6_endOf 34 = .ok (.iaload, 1) := dk_46 (dk_at dksX6_endOf_1 10 rfl rfl)
theorem dX6_endOf_35 : decode cX6_endOf 35 = .ok (.if_icmp .gt 29, 3) := dk_163 0 29 (dk_at dksX6_endOf_1 11 rfl rfl)
theorem dX6_endOf_38 : decode cX6_endOf 38 = .ok (.aload_n 0, 1) := dk_42 (dk_at dksX6_endOf_1 14 rfl rfl)
theorem dX6_endOf_39 : decode cX6_endOf 39 = .ok (.dup, 1) := dk_89 (dk_at dksX6_endOf_1 15 rfl rfl)
theorem dX6_endOf_40 : decode cX6_endOf 40 = .ok (.getfield 402, 3) := dk_180 1 146 (dk_at dksX6_endOf_1 16 rfl rfl)
theorem dX6_endOf_43 : decode cX6_endOf 43 = .ok (.iload 5, 2) := dk_21 5 (dk_at dksX6_endOf_1 19 rfl rfl)
theorem dX6_endOf_45 : decode cX6_endOf 45 = .ok (.iadd, 1) := dk_96 (dk_at dksX6_endOf_1 21 rfl rfl)
theorem dX6_endOf_46 : decode cX6_endOf 46 = .ok (.putfield 402, 3) := dk_181 1 146 (dk_at dksX6_endOf_2 0 rfl rfl)
theorem dX6_endOf_49 : decode cX6_endOf 49 = .ok (.iload 5, 2) := dk_21 5 (dk_at dksX6_endOf_2 3 rfl rfl)
theorem dX6_endOf_51 : decode cX6_endOf 51 = .ok (.iload 4, 2) := dk_21 4 (dk_at dksX6_endOf_2 5 rfl rfl)
theorem dX6_endOf_53 : decode cX6_endOf 53 = .ok (.invokestatic 399, 3) := dk_184 1 143 (dk_at dksX6_endOf_2 7 rfl rfl)
theorem dX6_endOf_56 : decode cX6_endOf 56 = .ok (.istore 5, 2) := dk_54 5 (dk_at dksX6_endOf_2 10 rfl rfl)
theorem dX6_endOf_58 : decode cX6_endOf 58 = .ok (.iinc 6 1, 3) := dk_132 6 1 (dk_at dksX6_endOf_2 12 rfl rfl)
theorem dX6_endOf_61 : decode cX6_endOf 61 = .ok (.goto (-50), 3) := dk_167 255 206 (dk_at dksX6_endOf_2 15 rfl rfl)
theorem dX6_endOf_64 : decode cX6_endOf 64 = .ok (.iload 6, 2) := dk_21 6 (dk_at dksX6_endOf_2 18 rfl rfl)
theorem dX6_endOf_66 : decode cX6_endOf 66 = .ok (.ireturn, 1) := dk_172 (dk_at dksX6_endOf_2 20 rfl rfl)
abbrev cX6_wasted : ByteArray := prog_16_method_136_code
def yX6_wasted : MethodName := ⟨RX6, "wasted", "(IIII)I"⟩
def dkwX6_wasted_1 : List UInt8 := [172, 42, 27, 28, 29, 21, 4, 182, 1, 149, 87, 42, 42, 180, 1, 146, 182, 0, 79, 172]
abbrev dktX6_wasted_1 : List UInt8 := dkwX6_wasted_1 ++ []
def dkwX6_wasted_0 : List UInt8 := [42, 27, 28, 182, 1, 75, 153, 0, 13, 42, 29, 21, 4, 182, 1, 138, 154, 0, 9, 42, 4, 182, 0, 75]
abbrev dktX6_wasted_0 : List UInt8 := dkwX6_wasted_0 ++ dktX6_wasted_1
theorem dksX6_wasted_0 : cX6_wasted.data.toList.drop 0 = dktX6_wasted_0 := by decide +kernel
theorem dksX6_wasted_1 : cX6_wasted.data.toList.drop 24 = dktX6_wasted_1 := dk_seg dksX6_wasted_0 24 rfl rfl
theorem dX6_wasted_0 : decode cX6_wasted 0 = .ok (.aload_n 0, 1) := dk_42 (dk_at dksX6_wasted_0 0 rfl rfl)
theorem dX6_wasted_1 : decode cX6_wasted 1 = .ok (.iload_n 1, 1) := dk_27 (dk_at dksX6_wasted_0 1 rfl rfl)
theorem dX6_wasted_2 : decode cX6_wasted 2 = .ok (.iload_n 2, 1) := dk_28 (dk_at dksX6_wasted_0 2 rfl rfl)
theorem dX6_wasted_3 : decode cX6_wasted 3 = .ok (.invokevirtual 331, 3) := dk_182 1 75 (dk_at dksX6_wasted_0 3 rfl rfl)
theorem dX6_wasted_6 : decode cX6_wasted 6 = .ok (.ifCond .eq 13, 3) := dk_153 0 13 (dk_at dksX6_wasted_0 6 rfl rfl)
theorem dX6_wasted_9 : decode cX6_wasted 9 = .ok (.aload_n 0, 1) := dk_42 (dk_at dksX6_wasted_0 9 rfl rfl)
theorem dX6_wasted_10 : decode cX6_wasted 10 = .ok (.iload_n 3, 1) := dk_29 (dk_at dksX6_wasted_0 10 rfl rfl)
theorem dX6_wasted_11 : decode cX6_wasted 11 = .ok (.iload 4, 2) := dk_21 4 (dk_at dksX6_wasted_0 11 rfl rfl)
theorem dX6_wasted_13 : decode cX6_wasted 13 = .ok (.invokevirtual 394, 3) := dk_182 1 138 (dk_at dksX6_wasted_0 13 rfl rfl)
theorem dX6_wasted_16 : decode cX6_wasted 16 = .ok (.ifCond .ne 9, 3) := dk_154 0 9 (dk_at dksX6_wasted_0 16 rfl rfl)
theorem dX6_wasted_19 : decode cX6_wasted 19 = .ok (.aload_n 0, 1) := dk_42 (dk_at dksX6_wasted_0 19 rfl rfl)
theorem dX6_wasted_20 : decode cX6_wasted 20 = .ok (.iconst 1, 1) := dk_4 (dk_at dksX6_wasted_0 20 rfl rfl)
theorem dX6_wasted_21 : decode cX6_wasted 21 = .ok (.invokevirtual 75, 3) := dk_182 0 75 (dk_at dksX6_wasted_0 21 rfl rfl)
theorem dX6_wasted_24 : decode cX6_wasted 24 = .ok (.ireturn, 1) := dk_172 (dk_at dksX6_wasted_1 0 rfl rfl)
theorem dX6_wasted_25 : decode cX6_wasted 25 = .ok (.aload_n 0, 1) := dk_42 (dk_at dksX6_wasted_1 1 rfl rfl)
theorem dX6_wasted_26 : decode cX6_wasted 26 = .ok (.iload_n 1, 1) := dk_27 (dk_at dksX6_wasted_1 2 rfl rfl)
theorem dX6_wasted_27 : decode cX6_wasted 27 = .ok (.iload_n 2, 1) := dk_28 (dk_at dksX6_wasted_1 3 rfl rfl)
theorem dX6_wasted_28 : decode cX6_wasted 28 = .ok (.iload_n 3, 1) := dk_29 (dk_at dksX6_wasted_1 4 rfl rfl)
theorem dX6_wasted_29 : decode cX6_wasted 29 = .ok (.iload 4, 2) := dk_21 4 (dk_at dksX6_wasted_1 5 rfl rfl)
theorem dX6_wasted_31 : decode cX6_wasted 31 = .ok (.invokevirtual 405, 3) := dk_182 1 149 (dk_at dksX6_wasted_1 7 rfl rfl)
theorem dX6_wasted_34 : decode cX6_wasted 34 = .ok (.pop, 1) := dk_87 (dk_at dksX6_wasted_1 10 rfl rfl)
theorem dX6_wasted_35 : decode cX6_wasted 35 = .ok (.aload_n 0, 1) := dk_42 (dk_at dksX6_wasted_1 11 rfl rfl)
theorem dX6_wasted_36 : decode cX6_wasted 36 = .ok (.aload_n 0, 1) := dk_42 (dk_at dksX6_wasted_1 12 rfl rfl)
theorem dX6_wasted_37 : decode cX6_wasted 37 = .ok (.getfield 402, 3) := dk_180 1 146 (dk_at dksX6_wasted_1 13 rfl rfl)
theorem dX6_wasted_40 : decode cX6_wasted 40 = .ok (.invokevirtual 79, 3) := dk_182 0 79 (dk_at dksX6_wasted_1 16 rfl rfl)
theorem dX6_wasted_43 : decode cX6_wasted 43 = .ok (.ireturn, 1) := dk_172 (dk_at dksX6_wasted_1 19 rfl rfl)
abbrev cX6_gift : ByteArray := prog_16_method_138_code
def yX6_gift : MethodName := ⟨RX6, "gift", "(III)I"⟩
def dkwX6_gift_2 : List UInt8 := [182, 0, 79, 172]
abbrev dktX6_gift_2 : List UInt8 := dkwX6_gift_2 ++ []
def dkwX6_gift_1 : List UInt8 := [182, 0, 75, 172, 42, 27, 28, 29, 182, 1, 153, 42, 42, 180, 0, 7, 28, 27, 184, 1, 56, 46]
abbrev dktX6_gift_1 : List UInt8 := dkwX6_gift_1 ++ dktX6_gift_2
def dkwX6_gift_0 : List UInt8 := [42, 27, 28, 182, 1, 75, 153, 0, 15, 29, 133, 10, 20, 1, 52, 184, 1, 46, 154, 0, 9, 42, 4]
abbrev dktX6_gift_0 : List UInt8 := dkwX6_gift_0 ++ dktX6_gift_1
theorem dksX6_gift_0 : cX6_gift.data.toList.drop 0 = dktX6_gift_0 := by decide +kernel
theorem dksX6_gift_1 : cX6_gift.data.toList.drop 23 = dktX6_gift_1 := dk_seg dksX6_gift_0 23 rfl rfl
theorem dksX6_gift_2 : cX6_gift.data.toList.drop 45 = dktX6_gift_2 := dk_seg dksX6_gift_1 22 rfl rfl
theorem dX6_gift_0 : decode cX6_gift 0 = .ok (.aload_n 0, 1) := dk_42 (dk_at dksX6_gift_0 0 rfl rfl)
theorem dX6_gift_1 : decode cX6_gift 1 = .ok (.iload_n 1, 1) := dk_27 (dk_at dksX6_gift_0 1 rfl rfl)
theorem dX6_gift_2 : decode cX6_gift 2 = .ok (.iload_n 2, 1) := dk_28 (dk_at dksX6_gift_0 2 rfl rfl)
theorem dX6_gift_3 : decode cX6_gift 3 = .ok (.invokevirtual 331, 3) := dk_182 1 75 (dk_at dksX6_gift_0 3 rfl rfl)
theorem dX6_gift_6 : decode cX6_gift 6 = .ok (.ifCond .eq 15, 3) := dk_153 0 15 (dk_at dksX6_gift_0 6 rfl rfl)
theorem dX6_gift_9 : decode cX6_gift 9 = .ok (.iload_n 3, 1) := dk_29 (dk_at dksX6_gift_0 9 rfl rfl)
theorem dX6_gift_10 : decode cX6_gift 10 = .ok (.i2l, 1) := dk_133 (dk_at dksX6_gift_0 10 rfl rfl)
theorem dX6_gift_11 : decode cX6_gift 11 = .ok (.lconst 1, 1) := dk_10 (dk_at dksX6_gift_0 11 rfl rfl)
theorem dX6_gift_12 : decode cX6_gift 12 = .ok (.ldc2_w 308, 3) := dk_20 1 52 (dk_at dksX6_gift_0 12 rfl rfl)
theorem dX6_gift_15 : decode cX6_gift 15 = .ok (.invokestatic 302, 3) := dk_184 1 46 (dk_at dksX6_gift_0 15 rfl rfl)
theorem dX6_gift_18 : decode cX6_gift 18 = .ok (.ifCond .ne 9, 3) := dk_154 0 9 (dk_at dksX6_gift_0 18 rfl rfl)
theorem dX6_gift_21 : decode cX6_gift 21 = .ok (.aload_n 0, 1) := dk_42 (dk_at dksX6_gift_0 21 rfl rfl)
theorem dX6_gift_22 : decode cX6_gift 22 = .ok (.iconst 1, 1) := dk_4 (dk_at dksX6_gift_0 22 rfl rfl)
theorem dX6_gift_23 : decode cX6_gift 23 = .ok (.invokevirtual 75, 3) := dk_182 0 75 (dk_at dksX6_gift_1 0 rfl rfl)
theorem dX6_gift_26 : decode cX6_gift 26 = .ok (.ireturn, 1) := dk_172 (dk_at dksX6_gift_1 3 rfl rfl)
theorem dX6_gift_27 : decode cX6_gift 27 = .ok (.aload_n 0, 1) := dk_42 (dk_at dksX6_gift_1 4 rfl rfl)
theorem dX6_gift_28 : decode cX6_gift 28 = .ok (.iload_n 1, 1) := dk_27 (dk_at dksX6_gift_1 5 rfl rfl)
theorem dX6_gift_29 : decode cX6_gift 29 = .ok (.iload_n 2, 1) := dk_28 (dk_at dksX6_gift_1 6 rfl rfl)
theorem dX6_gift_30 : decode cX6_gift 30 = .ok (.iload_n 3, 1) := dk_29 (dk_at dksX6_gift_1 7 rfl rfl)
theorem dX6_gift_31 : decode cX6_gift 31 = .ok (.invokevirtual 409, 3) := dk_182 1 153 (dk_at dksX6_gift_1 8 rfl rfl)
theorem dX6_gift_34 : decode cX6_gift 34 = .ok (.aload_n 0, 1) := dk_42 (dk_at dksX6_gift_1 11 rfl rfl)
theorem dX6_gift_35 : decode cX6_gift 35 = .ok (.aload_n 0, 1) := dk_42 (dk_at dksX6_gift_1 12 rfl rfl)
theorem dX6_gift_36 : decode cX6_gift 36 = .ok (.getfield 7, 3) := dk_180 0 7 (dk_at dksX6_gift_1 13 rfl rfl)
theorem dX6_gift_39 : decode cX6_gift 39 = .ok (.iload_n 2, 1) := dk_28 (dk_at dksX6_gift_1 16 rfl rfl)
theorem dX6_gift_40 : decode cX6_gift 40 = .ok (.iload_n 1, 1) := dk_27 (dk_at dksX6_gift_1 17 rfl rfl)
theorem dX6_gift_41 : decode cX6_gift 41 = .ok (.invokestatic 312, 3) := dk_184 1 56 (dk_at dksX6_gift_1 18 rfl rfl)
theorem dX6_gift_44 : decode cX6_gift 44 = .ok (.iaload, 1) := dk_46 (dk_at dksX6_gift_1 21 rfl rfl)
theorem dX6_gift_45 : decode cX6_gift 45 = .ok (.invokevirtual 79, 3) := dk_182 0 79 (dk_at dksX6_gift_2 0 rfl rfl)
theorem dX6_gift_48 : decode cX6_gift 48 = .ok (.ireturn, 1) := dk_172 (dk_at dksX6_gift_2 3 rfl rfl)
abbrev cX6_gifts : ByteArray := prog_16_method_137_code
def yX6_gifts : MethodName := ⟨RX6, "gifts", "(III)V"⟩
def dkwX6_gifts_1 : List UInt8 := [184, 1, 104, 79, 42, 180, 0, 7, 16, 6, 92, 46, 4, 96, 79, 177]
abbrev dktX6_gifts_1 : List UInt8 := dkwX6_gifts_1 ++ []
def dkwX6_gifts_0 : List UInt8 := [42, 180, 0, 7, 28, 27, 184, 1, 56, 3, 42, 180, 0, 7, 28, 27, 184, 1, 56, 46, 29, 100]
abbrev dktX6_gifts_0 : List UInt8 := dkwX6_gifts_0 ++ dktX6_gifts_1
theorem dksX6_gifts_0 : cX6_gifts.data.toList.drop 0 = dktX6_gifts_0 := by decide +kernel
theorem dksX6_gifts_1 : cX6_gifts.data.toList.drop 22 = dktX6_gifts_1 := dk_seg dksX6_gifts_0 22 rfl rfl
theorem dX6_gifts_0 : decode cX6_gifts 0 = .ok (.aload_n 0, 1) := dk_42 (dk_at dksX6_gifts_0 0 rfl rfl)
theorem dX6_gifts_1 : decode cX6_gifts 1 = .ok (.getfield 7, 3) := dk_180 0 7 (dk_at dksX6_gifts_0 1 rfl rfl)
theorem dX6_gifts_4 : decode cX6_gifts 4 = .ok (.iload_n 2, 1) := dk_28 (dk_at dksX6_gifts_0 4 rfl rfl)
theorem dX6_gifts_5 : decode cX6_gifts 5 = .ok (.iload_n 1, 1) := dk_27 (dk_at dksX6_gifts_0 5 rfl rfl)
theorem dX6_gifts_6 : decode cX6_gifts 6 = .ok (.invokestatic 312, 3) := dk_184 1 56 (dk_at dksX6_gifts_0 6 rfl rfl)
theorem dX6_gifts_9 : decode cX6_gifts 9 = .ok (.iconst 0, 1) := dk_3 (dk_at dksX6_gifts_0 9 rfl rfl)
theorem dX6_gifts_10 : decode cX6_gifts 10 = .ok (.aload_n 0, 1) := dk_42 (dk_at dksX6_gifts_0 10 rfl rfl)
theorem dX6_gifts_11 : decode cX6_gifts 11 = .ok (.getfield 7, 3) := dk_180 0 7 (dk_at dksX6_gifts_0 11 rfl rfl)
theorem dX6_gifts_14 : decode cX6_gifts 14 = .ok (.iload_n 2, 1) := dk_28 (dk_at dksX6_gifts_0 14 rfl rfl)
theorem dX6_gifts_15 : decode cX6_gifts 15 = .ok (.iload_n 1, 1) := dk_27 (dk_at dksX6_gifts_0 15 rfl rfl)
theorem dX6_gifts_16 : decode cX6_gifts 16 = .ok (.invokestatic 312, 3) := dk_184 1 56 (dk_at dksX6_gifts_0 16 rfl rfl)
theorem dX6_gifts_19 : decode cX6_gifts 19 = .ok (.iaload, 1) := dk_46 (dk_at dksX6_gifts_0 19 rfl rfl)
theorem dX6_gifts_20 : decode cX6_gifts 20 = .ok (.iload_n 3, 1) := dk_29 (dk_at dksX6_gifts_0 20 rfl rfl)
theorem dX6_gifts_21 : decode cX6_gifts 21 = .ok (.isub, 1) := dk_100 (dk_at dksX6_gifts_0 21 rfl rfl)
theorem dX6_gifts_22 : decode cX6_gifts 22 = .ok (.invokestatic 360, 3) := dk_184 1 104 (dk_at dksX6_gifts_1 0 rfl rfl)
theorem dX6_gifts_25 : decode cX6_gifts 25 = .ok (.iastore, 1) := dk_79 (dk_at dksX6_gifts_1 3 rfl rfl)
theorem dX6_gifts_26 : decode cX6_gifts 26 = .ok (.aload_n 0, 1) := dk_42 (dk_at dksX6_gifts_1 4 rfl rfl)
theorem dX6_gifts_27 : decode cX6_gifts 27 = .ok (.getfield 7, 3) := dk_180 0 7 (dk_at dksX6_gifts_1 5 rfl rfl)
theorem dX6_gifts_30 : decode cX6_gifts 30 = .ok (.bipush 6, 2) := dk_16 6 (dk_at dksX6_gifts_1 8 rfl rfl)
theorem dX6_gifts_32 : decode cX6_gifts 32 = .ok (.dup2, 1) := dk_92 (dk_at dksX6_gifts_1 10 rfl rfl)
theorem dX6_gifts_33 : decode cX6_gifts 33 = .ok (.iaload, 1) := dk_46 (dk_at dksX6_gifts_1 11 rfl rfl)
theorem dX6_gifts_34 : decode cX6_gifts 34 = .ok (.iconst 1, 1) := dk_4 (dk_at dksX6_gifts_1 12 rfl rfl)
theorem dX6_gifts_35 : decode cX6_gifts 35 = .ok (.iadd, 1) := dk_96 (dk_at dksX6_gifts_1 13 rfl rfl)
theorem dX6_gifts_36 : decode cX6_gifts 36 = .ok (.iastore, 1) := dk_79 (dk_at dksX6_gifts_1 14 rfl rfl)
theorem dX6_gifts_37 : decode cX6_gifts 37 = .ok (.return_, 1) := dk_177 (dk_at dksX6_gifts_1 15 rfl rfl)
abbrev cX6_receipts : ByteArray := prog_16_method_139_code
def yX6_receipts : MethodName := ⟨RX6, "receipts", "(IIII)I"⟩
def dkwX6_receipts_13 : List UInt8 := [182, 1, 157, 87, 132, 5, 1, 167, 255, 225, 42, 42, 180, 0, 7, 3, 46, 182, 0, 79, 172]
abbrev dktX6_receipts_13 : List UInt8 := dkwX6_receipts_13 ++ []
def dkwX6_receipts_12 : List UInt8 := [42, 180, 0, 7, 3, 46, 162, 0, 26, 42, 21, 4, 21, 5, 42, 180, 0, 50, 21, 5, 46, 133]
abbrev dktX6_receipts_12 : List UInt8 := dkwX6_receipts_12 ++ dktX6_receipts_13
def dkwX6_receipts_11 : List UInt8 := [21, 6, 92, 46, 29, 96, 79, 132, 7, 1, 167, 255, 197, 132, 5, 1, 167, 255, 167, 3, 54, 5, 21, 5]
abbrev dktX6_receipts_11 : List UInt8 := dkwX6_receipts_11 ++ dktX6_receipts_12
def dkwX6_receipts_10 : List UInt8 := [182, 1, 14, 154, 0, 6, 167, 0, 25, 42, 180, 0, 50, 21, 7, 92, 46, 29, 100, 79, 42, 180, 0, 50]
abbrev dktX6_receipts_10 : List UInt8 := dkwX6_receipts_10 ++ dktX6_receipts_11
def dkwX6_receipts_9 : List UInt8 := [42, 180, 0, 7, 3, 46, 162, 0, 54, 21, 7, 21, 6, 159, 0, 41, 42, 42, 182, 1, 8, 21, 7]
abbrev dktX6_receipts_9 : List UInt8 := dkwX6_receipts_9 ++ dktX6_receipts_10
def dkwX6_receipts_8 : List UInt8 := [28, 162, 0, 89, 42, 180, 0, 27, 16, 60, 27, 104, 21, 5, 96, 47, 136, 54, 6, 3, 54, 7, 21, 7]
abbrev dktX6_receipts_8 : List UInt8 := dkwX6_receipts_8 ++ dktX6_receipts_9
def dkwX6_receipts_7 : List UInt8 := [3, 46, 162, 0, 17, 42, 180, 0, 50, 21, 5, 3, 79, 132, 5, 1, 167, 255, 234, 3, 54, 5, 21, 5]
abbrev dktX6_receipts_7 : List UInt8 := dkwX6_receipts_7 ++ dktX6_receipts_8
def dkwX6_receipts_6 : List UInt8 := [154, 0, 9, 42, 8, 182, 0, 75, 172, 132, 5, 1, 167, 255, 213, 3, 54, 5, 21, 5, 42, 180, 0, 7]
abbrev dktX6_receipts_6 : List UInt8 := dkwX6_receipts_6 ++ dktX6_receipts_7
def dkwX6_receipts_5 : List UInt8 := [180, 0, 27, 16, 60, 27, 104, 21, 5, 96, 47, 9, 42, 180, 0, 7, 3, 46, 133, 10, 101, 184, 1, 46]
abbrev dktX6_receipts_5 : List UInt8 := dkwX6_receipts_5 ++ dktX6_receipts_6
def dkwX6_receipts_4 : List UInt8 := [180, 0, 7, 3, 46, 162, 0, 9, 42, 6, 182, 0, 75, 172, 3, 54, 5, 21, 5, 28, 162, 0, 43, 42]
abbrev dktX6_receipts_4 : List UInt8 := dkwX6_receipts_4 ++ dktX6_receipts_5
def dkwX6_receipts_3 : List UInt8 := [182, 0, 75, 172, 42, 180, 0, 24, 27, 46, 28, 161, 0, 19, 42, 180, 0, 24, 21, 4, 46, 42]
abbrev dktX6_receipts_3 : List UInt8 := dkwX6_receipts_3 ++ dktX6_receipts_4
def dkwX6_receipts_2 : List UInt8 := [42, 180, 0, 24, 27, 46, 2, 159, 0, 14, 42, 180, 0, 24, 21, 4, 46, 2, 160, 0, 9, 42, 5]
abbrev dktX6_receipts_2 : List UInt8 := dkwX6_receipts_2 ++ dktX6_receipts_3
def dkwX6_receipts_1 : List UInt8 := [20, 1, 44, 184, 1, 46, 153, 0, 12, 42, 180, 0, 7, 3, 46, 154, 0, 9, 42, 4, 182, 0, 75, 172]
abbrev dktX6_receipts_1 : List UInt8 := dkwX6_receipts_1 ++ dktX6_receipts_2
def dkwX6_receipts_0 : List UInt8 := [27, 184, 0, 86, 153, 0, 36, 21, 4, 184, 0, 86, 153, 0, 28, 28, 155, 0, 24, 29, 133, 10]
abbrev dktX6_receipts_0 : List UInt8 := dkwX6_receipts_0 ++ dktX6_receipts_1
theorem dksX6_receipts_0 : cX6_receipts.data.toList.drop 0 = dktX6_receipts_0 := by decide +kernel
theorem dksX6_receipts_1 : cX6_receipts.data.toList.drop 22 = dktX6_receipts_1 := dk_seg dksX6_receipts_0 22 rfl rfl
theorem dksX6_receipts_2 : cX6_receipts.data.toList.drop 46 = dktX6_receipts_2 := dk_seg dksX6_receipts_1 24 rfl rfl
theorem dksX6_receipts_3 : cX6_receipts.data.toList.drop 69 = dktX6_receipts_3 := dk_seg dksX6_receipts_2 23 rfl rfl
theorem dksX6_receipts_4 : cX6_receipts.data.toList.drop 91 = dktX6_receipts_4 := dk_seg dksX6_receipts_3 22 rfl rfl
theorem dksX6_receipts_5 : cX6_receipts.data.toList.drop 115 = dktX6_receipts_5 := dk_seg dksX6_receipts_4 24 rfl rfl
theorem dksX6_receipts_6 : cX6_receipts.data.toList.drop 139 = dktX6_receipts_6 := dk_seg dksX6_receipts_5 24 rfl rfl
theorem dksX6_receipts_7 : cX6_receipts.data.toList.drop 163 = dktX6_receipts_7 := dk_seg dksX6_receipts_6 24 rfl rfl
theorem dksX6_receipts_8 : cX6_receipts.data.toList.drop 187 = dktX6_receipts_8 := dk_seg dksX6_receipts_7 24 rfl rfl
theorem dksX6_receipts_9 : cX6_receipts.data.toList.drop 211 = dktX6_receipts_9 := dk_seg dksX6_receipts_8 24 rfl rfl
theorem dksX6_receipts_10 : cX6_receipts.data.toList.drop 234 = dktX6_receipts_10 := dk_seg dksX6_receipts_9 23 rfl rfl
theorem dksX6_receipts_11 : cX6_receipts.data.toList.drop 258 = dktX6_receipts_11 := dk_seg dksX6_receipts_10 24 rfl rfl
theorem dksX6_receipts_12 : cX6_receipts.data.toList.drop 282 = dktX6_receipts_12 := dk_seg dksX6_receipts_11 24 rfl rfl
theorem dksX6_receipts_13 : cX6_receipts.data.toList.drop 304 = dktX6_receipts_13 := dk_seg dksX6_receipts_12 22 rfl rfl
theorem dX6_receipts_0 : decode cX6_receipts 0 = .ok (.iload_n 1, 1) := dk_27 (dk_at dksX6_receipts_0 0 rfl rfl)
theorem dX6_receipts_1 : decode cX6_receipts 1 = .ok (.invokestatic 86, 3) := dk_184 0 86 (dk_at dksX6_receipts_0 1 rfl rfl)
theorem dX6_receipts_4 : decode cX6_receipts 4 = .ok (.ifCond .eq 36, 3) := dk_153 0 36 (dk_at dksX6_receipts_0 4 rfl rfl)
theorem dX6_receipts_7 : decode cX6_receipts 7 = .ok (.iload 4, 2) := dk_21 4 (dk_at dksX6_receipts_0 7 rfl rfl)
theorem dX6_receipts_9 : decode cX6_receipts 9 = .ok (.invokestatic 86, 3) := dk_184 0 86 (dk_at dksX6_receipts_0 9 rfl rfl)
theorem dX6_receipts_12 : decode cX6_receipts 12 = .ok (.ifCond .eq 28, 3) := dk_153 0 28 (dk_at dksX6_receipts_0 12 rfl rfl)
theorem dX6_receipts_15 : decode cX6_receipts 15 = .ok (.iload_n 2, 1) := dk_28 (dk_at dksX6_receipts_0 15 rfl rfl)
theorem dX6_receipts_16 : decode cX6_receipts 16 = .ok (.ifCond .lt 24, 3) := dk_155 0 24 (dk_at dksX6_receipts_0 16 rfl rfl)
theorem dX6_receipts_19 : decode cX6_receipts 19 = .ok (.iload_n 3, 1) := dk_29 (dk_at dksX6_receipts_0 19 rfl rfl)
theorem dX6_receipts_20 : decode cX6_receipts 20 = .ok (.i2l, 1) := dk_133 (dk_at dksX6_receipts_0 20 rfl rfl)
theorem dX6_receipts_21 : decode cX6_receipts 21 = .ok (.lconst 1, 1) := dk_10 (dk_at dksX6_receipts_0 21 rfl rfl)
theorem dX6_receipts_22 : decode cX6_receipts 22 = .ok (.ldc2_w 300, 3) := dk_20 1 44 (dk_at dksX6_receipts_1 0 rfl rfl)
theorem dX6_receipts_25 : decode cX6_receipts 25 = .ok (.invokestatic 302, 3) := dk_184 1 46 (dk_at dksX6_receipts_1 3 rfl rfl)
theorem dX6_receipts_28 : decode cX6_receipts 28 = .ok (.ifCond .eq 12, 3) := dk_153 0 12 (dk_at dksX6_receipts_1 6 rfl rfl)
theorem dX6_receipts_31 : decode cX6_receipts 31 = .ok (.aload_n 0, 1) := dk_42 (dk_at dksX6_receipts_1 9 rfl rfl)
theorem dX6_receipts_32 : decode cX6_receipts 32 = .ok (.getfield 7, 3) := dk_180 0 7 (dk_at dksX6_receipts_1 10 rfl rfl)
theorem dX6_receipts_35 : decode cX6_receipts 35 = .ok (.iconst 0, 1) := dk_3 (dk_at dksX6_receipts_1 13 rfl rfl)
theorem dX6_receipts_36 : decode cX6_receipts 36 = .ok (.iaload, 1) := dk_46 (dk_at dksX6_receipts_1 14 rfl rfl)
theorem dX6_receipts_37 : decode cX6_receipts 37 = .ok (.ifCond .ne 9, 3) := dk_154 0 9 (dk_at dksX6_receipts_1 15 rfl rfl)
theorem dX6_receipts_40 : decode cX6_receipts 40 = .ok (.aload_n 0, 1) := dk_42 (dk_at dksX6_receipts_1 18 rfl rfl)
theorem dX6_receipts_41 : decode cX6_receipts 41 = .ok (.iconst 1, 1) := dk_4 (dk_at dksX6_receipts_1 19 rfl rfl)
theorem dX6_receipts_42 : decode cX6_receipts 42 = .ok (.invokevirtual 75, 3) := dk_182 0 75 (dk_at dksX6_receipts_1 20 rfl rfl)
theorem dX6_receipts_45 : decode cX6_receipts 45 = .ok (.ireturn, 1) := dk_172 (dk_at dksX6_receipts_1 23 rfl rfl)
theorem dX6_receipts_46 : decode cX6_receipts 46 = .ok (.aload_n 0, 1) := dk_42 (dk_at dksX6_receipts_2 0 rfl rfl)
theorem dX6_receipts_47 : decode cX6_receipts 47 = .ok (.getfield 24, 3) := dk_180 0 24 (dk_at dksX6_receipts_2 1 rfl rfl)
theorem dX6_receipts_50 : decode cX6_receipts 50 = .ok (.iload_n 1, 1) := dk_27 (dk_at dksX6_receipts_2 4 rfl rfl)
theorem dX6_receipts_51 : decode cX6_receipts 51 = .ok (.iaload, 1) := dk_46 (dk_at dksX6_receipts_2 5 rfl rfl)
theorem dX6_receipts_52 : decode cX6_receipts 52 = .ok (.iconst (-1), 1) := dk_2 (dk_at dksX6_receipts_2 6 rfl rfl)
theorem dX6_receipts_53 : decode cX6_receipts 53 = .ok (.if_icmp .eq 14, 3) := dk_159 0 14 (dk_at dksX6_receipts_2 7 rfl rfl)
theorem dX6_receipts_56 : decode cX6_receipts 56 = .ok (.aload_n 0, 1) := dk_42 (dk_at dksX6_receipts_2 10 rfl rfl)
theorem dX6_receipts_57 : decode cX6_receipts 57 = .ok (.getfield 24, 3) := dk_180 0 24 (dk_at dksX6_receipts_2 11 rfl rfl)
theorem dX6_receipts_60 : decode cX6_receipts 60 = .ok (.iload 4, 2) := dk_21 4 (dk_at dksX6_receipts_2 14 rfl rfl)
theorem dX6_receipts_62 : decode cX6_receipts 62 = .ok (.iaload, 1) := dk_46 (dk_at dksX6_receipts_2 16 rfl rfl)
theorem dX6_receipts_63 : decode cX6_receipts 63 = .ok (.iconst (-1), 1) := dk_2 (dk_at dksX6_receipts_2 17 rfl rfl)
theorem dX6_receipts_64 : decode cX6_receipts 64 = .ok (.if_icmp .ne 9, 3) := dk_160 0 9 (dk_at dksX6_receipts_2 18 rfl rfl)
theorem dX6_receipts_67 : decode cX6_receipts 67 = .ok (.aload_n 0, 1) := dk_42 (dk_at dksX6_receipts_2 21 rfl rfl)
theorem dX6_receipts_68 : decode cX6_receipts 68 = .ok (.iconst 2, 1) := dk_5 (dk_at dksX6_receipts_2 22 rfl rfl)
theorem dX6_receipts_69 : decode cX6_receipts 69 = .ok (.invokevirtual 75, 3) := dk_182 0 75 (dk_at dksX6_receipts_3 0 rfl rfl)
theorem dX6_receipts_72 : decode cX6_receipts 72 = .ok (.ireturn, 1) := dk_172 (dk_at dksX6_receipts_3 3 rfl rfl)
theorem dX6_receipts_73 : decode cX6_receipts 73 = .ok (.aload_n 0, 1) := dk_42 (dk_at dksX6_receipts_3 4 rfl rfl)
theorem dX6_receipts_74 : decode cX6_receipts 74 = .ok (.getfield 24, 3) := dk_180 0 24 (dk_at dksX6_receipts_3 5 rfl rfl)
theorem dX6_receipts_77 : decode cX6_receipts 77 = .ok (.iload_n 1, 1) := dk_27 (dk_at dksX6_receipts_3 8 rfl rfl)
theorem dX6_receipts_78 : decode cX6_receipts 78 = .ok (.iaload, 1) := dk_46 (dk_at dksX6_receipts_3 9 rfl rfl)
theorem dX6_receipts_79 : decode cX6_receipts 79 = .ok (.iload_n 2, 1) := dk_28 (dk_at dksX6_receipts_3 10 rfl rfl)
theorem dX6_receipts_80 : decode cX6_receipts 80 = .ok (.if_icmp .lt 19, 3) := dk_161 0 19 (dk_at dksX6_receipts_3 11 rfl rfl)
theorem dX6_receipts_83 : decode cX6_receipts 83 = .ok (.aload_n 0, 1) := dk_42 (dk_at dksX6_receipts_3 14 rfl rfl)
theorem dX6_receipts_84 : decode cX6_receipts 84 = .ok (.getfield 24, 3) := dk_180 0 24 (dk_at dksX6_receipts_3 15 rfl rfl)
theorem dX6_receipts_87 : decode cX6_receipts 87 = .ok (.iload 4, 2) := dk_21 4 (dk_at dksX6_receipts_3 18 rfl rfl)
theorem dX6_receipts_89 : decode cX6_receipts 89 = .ok (.iaload, 1) := dk_46 (dk_at dksX6_receipts_3 20 rfl rfl)
theorem dX6_receipts_90 : decode cX6_receipts 90 = .ok (.aload_n 0, 1) := dk_42 (dk_at dksX6_receipts_3 21 rfl rfl)
theorem dX6_receipts_91 : decode cX6_receipts 91 = .ok (.getfield 7, 3) := dk_180 0 7 (dk_at dksX6_receipts_4 0 rfl rfl)
theorem dX6_receipts_94 : decode cX6_receipts 94 = .ok (.iconst 0, 1) := dk_3 (dk_at dksX6_receipts_4 3 rfl rfl)
theorem dX6_receipts_95 : decode cX6_receipts 95 = .ok (.iaload, 1) := dk_46 (dk_at dksX6_receipts_4 4 rfl rfl)
theorem dX6_receipts_96 : decode cX6_receipts 96 = .ok (.if_icmp .ge 9, 3) := dk_162 0 9 (dk_at dksX6_receipts_4 5 rfl rfl)
theorem dX6_receipts_99 : decode cX6_receipts 99 = .ok (.aload_n 0, 1) := dk_42 (dk_at dksX6_receipts_4 8 rfl rfl)
theorem dX6_receipts_100 : decode cX6_receipts 100 = .ok (.iconst 3, 1) := dk_6 (dk_at dksX6_receipts_4 9 rfl rfl)
theorem dX6_receipts_101 : decode cX6_receipts 101 = .ok (.invokevirtual 75, 3) := dk_182 0 75 (dk_at dksX6_receipts_4 10 rfl rfl)
theorem dX6_receipts_104 : decode cX6_receipts 104 = .ok (.ireturn, 1) := dk_172 (dk_at dksX6_receipts_4 13 rfl rfl)
theorem dX6_receipts_105 : decode cX6_receipts 105 = .ok (.iconst 0, 1) := dk_3 (dk_at dksX6_receipts_4 14 rfl rfl)
theorem dX6_receipts_106 : decode cX6_receipts 106 = .ok (.istore 5, 2) := dk_54 5 (dk_at dksX6_receipts_4 15 rfl rfl)
theorem dX6_receipts_108 : decode cX6_receipts 108 = .ok (.iload 5, 2) := dk_21 5 (dk_at dksX6_receipts_4 17 rfl rfl)
theorem dX6_receipts_110 : decode cX6_receipts 110 = .ok (.iload_n 2, 1) := dk_28 (dk_at dksX6_receipts_4 19 rfl rfl)
theorem dX6_receipts_111 : decode cX6_receipts 111 = .ok (.if_icmp .ge 43, 3) := dk_162 0 43 (dk_at dksX6_receipts_4 20 rfl rfl)
theorem dX6_receipts_114 : decode cX6_receipts 114 = .ok (.aload_n 0, 1) := dk_42 (dk_at dksX6_receipts_4 23 rfl rfl)
theorem dX6_receipts_115 : decode cX6_receipts 115 = .ok (.getfield 27, 3) := dk_180 0 27 (dk_at dksX6_receipts_5 0 rfl rfl)
theorem dX6_receipts_118 : decode cX6_receipts 118 = .ok (.bipush 60, 2) := dk_16 60 (dk_at dksX6_receipts_5 3 rfl rfl)
theorem dX6_receipts_120 : decode cX6_receipts 120 = .ok (.iload_n 1, 1) := dk_27 (dk_at dksX6_receipts_5 5 rfl rfl)
theorem dX6_receipts_121 : decode cX6_receipts 121 = .ok (.imul, 1) := dk_104 (dk_at dksX6_receipts_5 6 rfl rfl)
theorem dX6_receipts_122 : decode cX6_receipts 122 = .ok (.iload 5, 2) := dk_21 5 (dk_at dksX6_receipts_5 7 rfl rfl)
theorem dX6_receipts_124 : decode cX6_receipts 124 = .ok (.iadd, 1) := dk_96 (dk_at dksX6_receipts_5 9 rfl rfl)
theorem dX6_receipts_125 : decode cX6_receipts 125 = .ok (.laload, 1) := dk_47 (dk_at dksX6_receipts_5 10 rfl rfl)
theorem dX6_receipts_126 : decode cX6_receipts 126 = .ok (.lconst 0, 1) := dk_9 (dk_at dksX6_receipts_5 11 rfl rfl)
theorem dX6_receipts_127 : decode cX6_receipts 127 = .ok (.aload_n 0, 1) := dk_42 (dk_at dksX6_receipts_5 12 rfl rfl)
theorem dX6_receipts_128 : decode cX6_receipts 128 = .ok (.getfield 7, 3) := dk_180 0 7 (dk_at dksX6_receipts_5 13 rfl rfl)
theorem dX6_receipts_131 : decode cX6_receipts 131 = .ok (.iconst 0, 1) := dk_3 (dk_at dksX6_receipts_5 16 rfl rfl)
theorem dX6_receipts_132 : decode cX6_receipts 132 = .ok (.iaload, 1) := dk_46 (dk_at dksX6_receipts_5 17 rfl rfl)
theorem dX6_receipts_133 : decode cX6_receipts 133 = .ok (.i2l, 1) := dk_133 (dk_at dksX6_receipts_5 18 rfl rfl)
theorem dX6_receipts_134 : decode cX6_receipts 134 = .ok (.lconst 1, 1) := dk_10 (dk_at dksX6_receipts_5 19 rfl rfl)
theorem dX6_receipts_135 : decode cX6_receipts 135 = .ok (.lsub, 1) := dk_101 (dk_at dksX6_receipts_5 20 rfl rfl)
theorem dX6_receipts_136 : decode cX6_receipts 136 = .ok (.invokestatic 302, 3) := dk_184 1 46 (dk_at dksX6_receipts_5 21 rfl rfl)
theorem dX6_receipts_139 : decode cX6_receipts 139 = .ok (.ifCond .ne 9, 3) := dk_154 0 9 (dk_at dksX6_receipts_6 0 rfl rfl)
theorem dX6_receipts_142 : decode cX6_receipts 142 = .ok (.aload_n 0, 1) := dk_42 (dk_at dksX6_receipts_6 3 rfl rfl)
theorem dX6_receipts_143 : decode cX6_receipts 143 = .ok (.iconst 5, 1) := dk_8 (dk_at dksX6_receipts_6 4 rfl rfl)
theorem dX6_receipts_144 : decode cX6_receipts 144 = .ok (.invokevirtual 75, 3) := dk_182 0 75 (dk_at dksX6_receipts_6 5 rfl rfl)
theorem dX6_receipts_147 : decode cX6_receipts 147 = .ok (.ireturn, 1) := dk_172 (dk_at dksX6_receipts_6 8 rfl rfl)
theorem dX6_receipts_148 : decode cX6_receipts 148 = .ok (.iinc 5 1, 3) := dk_132 5 1 (dk_at dksX6_receipts_6 9 rfl rfl)
theorem dX6_receipts_151 : decode cX6_receipts 151 = .ok (.goto (-43), 3) := dk_167 255 213 (dk_at dksX6_receipts_6 12 rfl rfl)
theorem dX6_receipts_154 : decode cX6_receipts 154 = .ok (.iconst 0, 1) := dk_3 (dk_at dksX6_receipts_6 15 rfl rfl)
theorem dX6_receipts_155 : decode cX6_receipts 155 = .ok (.istore 5, 2) := dk_54 5 (dk_at dksX6_receipts_6 16 rfl rfl)
theorem dX6_receipts_157 : decode cX6_receipts 157 = .ok (.iload 5, 2) := dk_21 5 (dk_at dksX6_receipts_6 18 rfl rfl)
theorem dX6_receipts_159 : decode cX6_receipts 159 = .ok (.aload_n 0, 1) := dk_42 (dk_at dksX6_receipts_6 20 rfl rfl)
theorem dX6_receipts_160 : decode cX6_receipts 160 = .ok (.getfield 7, 3) := dk_180 0 7 (dk_at dksX6_receipts_6 21 rfl rfl)
theorem dX6_receipts_163 : decode cX6_receipts 163 = .ok (.iconst 0, 1) := dk_3 (dk_at dksX6_receipts_7 0 rfl rfl)
theorem dX6_receipts_164 : decode cX6_receipts 164 = .ok (.iaload, 1) := dk_46 (dk_at dksX6_receipts_7 1 rfl rfl)
theorem dX6_receipts_165 : decode cX6_receipts 165 = .ok (.if_icmp .ge 17, 3) := dk_162 0 17 (dk_at dksX6_receipts_7 2 rfl rfl)
theorem dX6_receipts_168 : decode cX6_receipts 168 = .ok (.aload_n 0, 1) := dk_42 (dk_at dksX6_receipts_7 5 rfl rfl)
theorem dX6_receipts_169 : decode cX6_receipts 169 = .ok (.getfield 50, 3) := dk_180 0 50 (dk_at dksX6_receipts_7 6 rfl rfl)
theorem dX6_receipts_172 : decode cX6_receipts 172 = .ok (.iload 5, 2) := dk_21 5 (dk_at dksX6_receipts_7 9 rfl rfl)
theorem dX6_receipts_174 : decode cX6_receipts 174 = .ok (.iconst 0, 1) := dk_3 (dk_at dksX6_receipts_7 11 rfl rfl)
theorem dX6_receipts_175 : decode cX6_receipts 175 = .ok (.iastore, 1) := dk_79 (dk_at dksX6_receipts_7 12 rfl rfl)
theorem dX6_receipts_176 : decode cX6_receipts 176 = .ok (.iinc 5 1, 3) := dk_132 5 1 (dk_at dksX6_receipts_7 13 rfl rfl)
theorem dX6_receipts_179 : decode cX6_receipts 179 = .ok (.goto (-22), 3) := dk_167 255 234 (dk_at dksX6_receipts_7 16 rfl rfl)
theorem dX6_receipts_182 : decode cX6_receipts 182 = .ok (.iconst 0, 1) := dk_3 (dk_at dksX6_receipts_7 19 rfl rfl)
theorem dX6_receipts_183 : decode cX6_receipts 183 = .ok (.istore 5, 2) := dk_54 5 (dk_at dksX6_receipts_7 20 rfl rfl)
theorem dX6_receipts_185 : decode cX6_receipts 185 = .ok (.iload 5, 2) := dk_21 5 (dk_at dksX6_receipts_7 22 rfl rfl)
theorem dX6_receipts_187 : decode cX6_receipts 187 = .ok (.iload_n 2, 1) := dk_28 (dk_at dksX6_receipts_8 0 rfl rfl)
theorem dX6_receipts_188 : decode cX6_receipts 188 = .ok (.if_icmp .ge 89, 3) := dk_162 0 89 (dk_at dksX6_receipts_8 1 rfl rfl)
theorem dX6_receipts_191 : decode cX6_receipts 191 = .ok (.aload_n 0, 1) := dk_42 (dk_at dksX6_receipts_8 4 rfl rfl)
theorem dX6_receipts_192 : decode cX6_receipts 192 = .ok (.getfield 27, 3) := dk_180 0 27 (dk_at dksX6_receipts_8 5 rfl rfl)
theorem dX6_receipts_195 : decode cX6_receipts 195 = .ok (.bipush 60, 2) := dk_16 60 (dk_at dksX6_receipts_8 8 rfl rfl)
theorem dX6_receipts_197 : decode cX6_receipts 197 = .ok (.iload_n 1, 1) := dk_27 (dk_at dksX6_receipts_8 10 rfl rfl)
theorem dX6_receipts_198 : decode cX6_receipts 198 = .ok (.imul, 1) := dk_104 (dk_at dksX6_receipts_8 11 rfl rfl)
theorem dX6_receipts_199 : decode cX6_receipts 199 = .ok (.iload 5, 2) := dk_21 5 (dk_at dksX6_receipts_8 12 rfl rfl)
theorem dX6_receipts_201 : decode cX6_receipts 201 = .ok (.iadd, 1) := dk_96 (dk_at dksX6_receipts_8 14 rfl rfl)
theorem dX6_receipts_202 : decode cX6_receipts 202 = .ok (.laload, 1) := dk_47 (dk_at dksX6_receipts_8 15 rfl rfl)
theorem dX6_receipts_203 : decode cX6_receipts 203 = .ok (.l2i, 1) := dk_136 (dk_at dksX6_receipts_8 16 rfl rfl)
theorem dX6_receipts_204 : decode cX6_receipts 204 = .ok (.istore 6, 2) := dk_54 6 (dk_at dksX6_receipts_8 17 rfl rfl)
theorem dX6_receipts_206 : decode cX6_receipts 206 = .ok (.iconst 0, 1) := dk_3 (dk_at dksX6_receipts_8 19 rfl rfl)
theorem dX6_receipts_207 : decode cX6_receipts 207 = .ok (.istore 7, 2) := dk_54 7 (dk_at dksX6_receipts_8 20 rfl rfl)
theorem dX6_receipts_209 : decode cX6_receipts 209 = .ok (.iload 7, 2) := dk_21 7 (dk_at dksX6_receipts_8 22 rfl rfl)
theorem dX6_receipts_211 : decode cX6_receipts 211 = .ok (.aload_n 0, 1) := dk_42 (dk_at dksX6_receipts_9 0 rfl rfl)
theorem dX6_receipts_212 : decode cX6_receipts 212 = .ok (.getfield 7, 3) := dk_180 0 7 (dk_at dksX6_receipts_9 1 rfl rfl)
theorem dX6_receipts_215 : decode cX6_receipts 215 = .ok (.iconst 0, 1) := dk_3 (dk_at dksX6_receipts_9 4 rfl rfl)
theorem dX6_receipts_216 : decode cX6_receipts 216 = .ok (.iaload, 1) := dk_46 (dk_at dksX6_receipts_9 5 rfl rfl)
theorem dX6_receipts_217 : decode cX6_receipts 217 = .ok (.if_icmp .ge 54, 3) := dk_162 0 54 (dk_at dksX6_receipts_9 6 rfl rfl)
theorem dX6_receipts_220 : decode cX6_receipts 220 = .ok (.iload 7, 2) := dk_21 7 (dk_at dksX6_receipts_9 9 rfl rfl)
theorem dX6_receipts_222 : decode cX6_receipts 222 = .ok (.iload 6, 2) := dk_21 6 (dk_at dksX6_receipts_9 11 rfl rfl)
theorem dX6_receipts_224 : decode cX6_receipts 224 = .ok (.if_icmp .eq 41, 3) := dk_159 0 41 (dk_at dksX6_receipts_9 13 rfl rfl)
theorem dX6_receipts_227 : decode cX6_receipts 227 = .ok (.aload_n 0, 1) := dk_42 (dk_at dksX6_receipts_9 16 rfl rfl)
theorem dX6_receipts_228 : decode cX6_receipts 228 = .ok (.aload_n 0, 1) := dk_42 (dk_at dksX6_receipts_9 17 rfl rfl)
theorem dX6_receipts_229 : decode cX6_receipts 229 = .ok (.invokevirtual 264, 3) := dk_182 1 8 (dk_at dksX6_receipts_9 18 rfl rfl)
theorem dX6_receipts_232 : decode cX6_receipts 232 = .ok (.iload 7, 2) := dk_21 7 (dk_at dksX6_receipts_9 21 rfl rfl)
theorem dX6_receipts_234 : decode cX6_receipts 234 = .ok (.invokevirtual 270, 3) := dk_182 1 14 (dk_at dksX6_receipts_10 0 rfl rfl)
theorem dX6_receipts_237 : decode cX6_receipts 237 = .ok (.ifCond .ne 6, 3) := dk_154 0 6 (dk_at dksX6_receipts_10 3 rfl rfl)
theorem dX6_receipts_240 : decode cX6_receipts 240 = .ok (.goto 25, 3) := dk_167 0 25 (dk_at dksX6_receipts_10 6 rfl rfl)
theorem dX6_receipts_243 : decode cX6_receipts 243 = .ok (.aload_n 0, 1) := dk_42 (dk_at dksX6_receipts_10 9 rfl rfl)
theorem dX6_receipts_244 : decode cX6_receipts 244 = .ok (.getfield 50, 3) := dk_180 0 50 (dk_at dksX6_receipts_10 10 rfl rfl)
theorem dX6_receipts_247 : decode cX6_receipts 247 = .ok (.iload 7, 2) := dk_21 7 (dk_at dksX6_receipts_10 13 rfl rfl)
theorem dX6_receipts_249 : decode cX6_receipts 249 = .ok (.dup2, 1) := dk_92 (dk_at dksX6_receipts_10 15 rfl rfl)
theorem dX6_receipts_250 : decode cX6_receipts 250 = .ok (.iaload, 1) := dk_46 (dk_at dksX6_receipts_10 16 rfl rfl)
theorem dX6_receipts_251 : decode cX6_receipts 251 = .ok (.iload_n 3, 1) := dk_29 (dk_at dksX6_receipts_10 17 rfl rfl)
theorem dX6_receipts_252 : decode cX6_receipts 252 = .ok (.isub, 1) := dk_100 (dk_at dksX6_receipts_10 18 rfl rfl)
theorem dX6_receipts_253 : decode cX6_receipts 253 = .ok (.iastore, 1) := dk_79 (dk_at dksX6_receipts_10 19 rfl rfl)
theorem dX6_receipts_254 : decode cX6_receipts 254 = .ok (.aload_n 0, 1) := dk_42 (dk_at dksX6_receipts_10 20 rfl rfl)
theorem dX6_receipts_255 : decode cX6_receipts 255 = .ok (.getfield 50, 3) := dk_180 0 50 (dk_at dksX6_receipts_10 21 rfl rfl)
theorem dX6_receipts_258 : decode cX6_receipts 258 = .ok (.iload 6, 2) := dk_21 6 (dk_at dksX6_receipts_11 0 rfl rfl)
theorem dX6_receipts_260 : decode cX6_receipts 260 = .ok (.dup2, 1) := dk_92 (dk_at dksX6_receipts_11 2 rfl rfl)
theorem dX6_receipts_261 : decode cX6_receipts 261 = .ok (.iaload, 1) := dk_46 (dk_at dksX6_receipts_11 3 rfl rfl)
theorem dX6_receipts_262 : decode cX6_receipts 262 = .ok (.iload_n 3, 1) := dk_29 (dk_at dksX6_receipts_11 4 rfl rfl)
theorem dX6_receipts_263 : decode cX6_receipts 263 = .ok (.iadd, 1) := dk_96 (dk_at dksX6_receipts_11 5 rfl rfl)
theorem dX6_receipts_264 : decode cX6_receipts 264 = .ok (.iastore, 1) := dk_79 (dk_at dksX6_receipts_11 6 rfl rfl)
theorem dX6_receipts_265 : decode cX6_receipts 265 = .ok (.iinc 7 1, 3) := dk_132 7 1 (dk_at dksX6_receipts_11 7 rfl rfl)
theorem dX6_receipts_268 : decode cX6_receipts 268 = .ok (.goto (-59), 3) := dk_167 255 197 (dk_at dksX6_receipts_11 10 rfl rfl)
theorem dX6_receipts_271 : decode cX6_receipts 271 = .ok (.iinc 5 1, 3) := dk_132 5 1 (dk_at dksX6_receipts_11 13 rfl rfl)
theorem dX6_receipts_274 : decode cX6_receipts 274 = .ok (.goto (-89), 3) := dk_167 255 167 (dk_at dksX6_receipts_11 16 rfl rfl)
theorem dX6_receipts_277 : decode cX6_receipts 277 = .ok (.iconst 0, 1) := dk_3 (dk_at dksX6_receipts_11 19 rfl rfl)
theorem dX6_receipts_278 : decode cX6_receipts 278 = .ok (.istore 5, 2) := dk_54 5 (dk_at dksX6_receipts_11 20 rfl rfl)
theorem dX6_receipts_280 : decode cX6_receipts 280 = .ok (.iload 5, 2) := dk_21 5 (dk_at dksX6_receipts_11 22 rfl rfl)
theorem dX6_receipts_282 : decode cX6_receipts 282 = .ok (.aload_n 0, 1) := dk_42 (dk_at dksX6_receipts_12 0 rfl rfl)
theorem dX6_receipts_283 : decode cX6_receipts 283 = .ok (.getfield 7, 3) := dk_180 0 7 (dk_at dksX6_receipts_12 1 rfl rfl)
theorem dX6_receipts_286 : decode cX6_receipts 286 = .ok (.iconst 0, 1) := dk_3 (dk_at dksX6_receipts_12 4 rfl rfl)
theorem dX6_receipts_287 : decode cX6_receipts 287 = .ok (.iaload, 1) := dk_46 (dk_at dksX6_receipts_12 5 rfl rfl)
theorem dX6_receipts_288 : decode cX6_receipts 288 = .ok (.if_icmp .ge 26, 3) := dk_162 0 26 (dk_at dksX6_receipts_12 6 rfl rfl)
theorem dX6_receipts_291 : decode cX6_receipts 291 = .ok (.aload_n 0, 1) := dk_42 (dk_at dksX6_receipts_12 9 rfl rfl)
theorem dX6_receipts_292 : decode cX6_receipts 292 = .ok (.iload 4, 2) := dk_21 4 (dk_at dksX6_receipts_12 10 rfl rfl)
theorem dX6_receipts_294 : decode cX6_receipts 294 = .ok (.iload 5, 2) := dk_21 5 (dk_at dksX6_receipts_12 12 rfl rfl)
theorem dX6_receipts_296 : decode cX6_receipts 296 = .ok (.aload_n 0, 1) := dk_42 (dk_at dksX6_receipts_12 14 rfl rfl)
theorem dX6_receipts_297 : decode cX6_receipts 297 = .ok (.getfield 50, 3) := dk_180 0 50 (dk_at dksX6_receipts_12 15 rfl rfl)
theorem dX6_receipts_300 : decode cX6_receipts 300 = .ok (.iload 5, 2) := dk_21 5 (dk_at dksX6_receipts_12 18 rfl rfl)
theorem dX6_receipts_302 : decode cX6_receipts 302 = .ok (.iaload, 1) := dk_46 (dk_at dksX6_receipts_12 20 rfl rfl)
theorem dX6_receipts_303 : decode cX6_receipts 303 = .ok (.i2l, 1) := dk_133 (dk_at dksX6_receipts_12 21 rfl rfl)
theorem dX6_receipts_304 : decode cX6_receipts 304 = .ok (.invokevirtual 413, 3) := dk_182 1 157 (dk_at dksX6_receipts_13 0 rfl rfl)
theorem dX6_receipts_307 : decode cX6_receipts 307 = .ok (.pop, 1) := dk_87 (dk_at dksX6_receipts_13 3 rfl rfl)
theorem dX6_receipts_308 : decode cX6_receipts 308 = .ok (.iinc 5 1, 3) := dk_132 5 1 (dk_at dksX6_receipts_13 4 rfl rfl)
theorem dX6_receipts_311 : decode cX6_receipts 311 = .ok (.goto (-31), 3) := dk_167 255 225 (dk_at dksX6_receipts_13 7 rfl rfl)
theorem dX6_receipts_314 : decode cX6_receipts 314 = .ok (.aload_n 0, 1) := dk_42 (dk_at dksX6_receipts_13 10 rfl rfl)
theorem dX6_receipts_315 : decode cX6_receipts 315 = .ok (.aload_n 0, 1) := dk_42 (dk_at dksX6_receipts_13 11 rfl rfl)
theorem dX6_receipts_316 : decode cX6_receipts 316 = .ok (.getfield 7, 3) := dk_180 0 7 (dk_at dksX6_receipts_13 12 rfl rfl)
theorem dX6_receipts_319 : decode cX6_receipts 319 = .ok (.iconst 0, 1) := dk_3 (dk_at dksX6_receipts_13 15 rfl rfl)
theorem dX6_receipts_320 : decode cX6_receipts 320 = .ok (.iaload, 1) := dk_46 (dk_at dksX6_receipts_13 16 rfl rfl)
theorem dX6_receipts_321 : decode cX6_receipts 321 = .ok (.invokevirtual 79, 3) := dk_182 0 79 (dk_at dksX6_receipts_13 17 rfl rfl)
theorem dX6_receipts_324 : decode cX6_receipts 324 = .ok (.ireturn, 1) := dk_172 (dk_at dksX6_receipts_13 20 rfl rfl)
abbrev cX6_remembers : ByteArray := prog_16_method_140_code
def yX6_remembers : MethodName := ⟨RX6, "remembers", "(I)I"⟩
def dkwX6_remembers_7 : List UInt8 := [182, 1, 35, 172]
abbrev dktX6_remembers_7 : List UInt8 := dkwX6_remembers_7 ++ []
def dkwX6_remembers_6 : List UInt8 := [22, 6, 33, 148, 157, 0, 6, 167, 0, 9, 22, 6, 66, 21, 5, 61, 132, 5, 1, 167, 255, 201, 42, 28]
abbrev dktX6_remembers_6 : List UInt8 := dkwX6_remembers_6 ++ dktX6_remembers_7
def dkwX6_remembers_5 : List UInt8 := [180, 0, 27, 16, 60, 27, 104, 21, 5, 96, 47, 42, 21, 5, 182, 1, 63, 133, 101, 184, 1, 165, 55, 6]
abbrev dktX6_remembers_5 : List UInt8 := dkwX6_remembers_5 ++ dktX6_remembers_6
def dkwX6_remembers_4 : List UInt8 := [167, 255, 214, 2, 61, 9, 66, 3, 54, 5, 21, 5, 42, 180, 0, 7, 3, 46, 162, 0, 50, 42]
abbrev dktX6_remembers_4 : List UInt8 := dkwX6_remembers_4 ++ dktX6_remembers_5
def dkwX6_remembers_3 : List UInt8 := [28, 96, 47, 20, 1, 161, 20, 1, 163, 184, 1, 46, 154, 0, 9, 42, 8, 182, 0, 75, 172, 132, 2, 1]
abbrev dktX6_remembers_3 : List UInt8 := dkwX6_remembers_3 ++ dktX6_remembers_4
def dkwX6_remembers_2 : List UInt8 := [182, 0, 75, 172, 3, 61, 28, 42, 180, 0, 7, 3, 46, 162, 0, 38, 42, 180, 0, 27, 16, 60, 27, 104]
abbrev dktX6_remembers_2 : List UInt8 := dkwX6_remembers_2 ++ dktX6_remembers_3
def dkwX6_remembers_1 : List UInt8 := [5, 182, 0, 75, 172, 42, 180, 0, 24, 27, 46, 42, 180, 0, 7, 3, 46, 162, 0, 9, 42, 6]
abbrev dktX6_remembers_1 : List UInt8 := dkwX6_remembers_1 ++ dktX6_remembers_2
def dkwX6_remembers_0 : List UInt8 := [27, 184, 0, 86, 154, 0, 9, 42, 4, 182, 0, 75, 172, 42, 180, 0, 24, 27, 46, 2, 160, 0, 9, 42]
abbrev dktX6_remembers_0 : List UInt8 := dkwX6_remembers_0 ++ dktX6_remembers_1
theorem dksX6_remembers_0 : cX6_remembers.data.toList.drop 0 = dktX6_remembers_0 := by decide +kernel
theorem dksX6_remembers_1 : cX6_remembers.data.toList.drop 24 = dktX6_remembers_1 := dk_seg dksX6_remembers_0 24 rfl rfl
theorem dksX6_remembers_2 : cX6_remembers.data.toList.drop 46 = dktX6_remembers_2 := dk_seg dksX6_remembers_1 22 rfl rfl
theorem dksX6_remembers_3 : cX6_remembers.data.toList.drop 70 = dktX6_remembers_3 := dk_seg dksX6_remembers_2 24 rfl rfl
theorem dksX6_remembers_4 : cX6_remembers.data.toList.drop 94 = dktX6_remembers_4 := dk_seg dksX6_remembers_3 24 rfl rfl
theorem dksX6_remembers_5 : cX6_remembers.data.toList.drop 116 = dktX6_remembers_5 := dk_seg dksX6_remembers_4 22 rfl rfl
theorem dksX6_remembers_6 : cX6_remembers.data.toList.drop 140 = dktX6_remembers_6 := dk_seg dksX6_remembers_5 24 rfl rfl
theorem dksX6_remembers_7 : cX6_remembers.data.toList.drop 164 = dktX6_remembers_7 := dk_seg dksX6_remembers_6 24 rfl rfl
theorem dX6_remembers_0 : decode cX6_remembers 0 = .ok (.iload_n 1, 1) := dk_27 (dk_at dksX6_remembers_0 0 rfl rfl)
theorem dX6_remembers_1 : decode cX6_remembers 1 = .ok (.invokestatic 86, 3) := dk_184 0 86 (dk_at dksX6_remembers_0 1 rfl rfl)
theorem dX6_remembers_4 : decode cX6_remembers 4 = .ok (.ifCond .ne 9, 3) := dk_154 0 9 (dk_at dksX6_remembers_0 4 rfl rfl)
theorem dX6_remembers_7 : decode cX6_remembers 7 = .ok (.aload_n 0, 1) := dk_42 (dk_at dksX6_remembers_0 7 rfl rfl)
theorem dX6_remembers_8 : decode cX6_remembers 8 = .ok (.iconst 1, 1) := dk_4 (dk_at dksX6_remembers_0 8 rfl rfl)
theorem dX6_remembers_9 : decode cX6_remembers 9 = .ok (.invokevirtual 75, 3) := dk_182 0 75 (dk_at dksX6_remembers_0 9 rfl rfl)
theorem dX6_remembers_12 : decode cX6_remembers 12 = .ok (.ireturn, 1) := dk_172 (dk_at dksX6_remembers_0 12 rfl rfl)
theorem dX6_remembers_13 : decode cX6_remembers 13 = .ok (.aload_n 0, 1) := dk_42 (dk_at dksX6_remembers_0 13 rfl rfl)
theorem dX6_remembers_14 : decode cX6_remembers 14 = .ok (.getfield 24, 3) := dk_180 0 24 (dk_at dksX6_remembers_0 14 rfl rfl)
theorem dX6_remembers_17 : decode cX6_remembers 17 = .ok (.iload_n 1, 1) := dk_27 (dk_at dksX6_remembers_0 17 rfl rfl)
theorem dX6_remembers_18 : decode cX6_remembers 18 = .ok (.iaload, 1) := dk_46 (dk_at dksX6_remembers_0 18 rfl rfl)
theorem dX6_remembers_19 : decode cX6_remembers 19 = .ok (.iconst (-1), 1) := dk_2 (dk_at dksX6_remembers_0 19 rfl rfl)
theorem dX6_remembers_20 : decode cX6_remembers 20 = .ok (.if_icmp .ne 9, 3) := dk_160 0 9 (dk_at dksX6_remembers_0 20 rfl rfl)
theorem dX6_remembers_23 : decode cX6_remembers 23 = .ok (.aload_n 0, 1) := dk_42 (dk_at dksX6_remembers_0 23 rfl rfl)
theorem dX6_remembers_24 : decode cX6_remembers 24 = .ok (.iconst 2, 1) := dk_5 (dk_at dksX6_remembers_1 0 rfl rfl)
theorem dX6_remembers_25 : decode cX6_remembers 25 = .ok (.invokevirtual 75, 3) := dk_182 0 75 (dk_at dksX6_remembers_1 1 rfl rfl)
theorem dX6_remembers_28 : decode cX6_remembers 28 = .ok (.ireturn, 1) := dk_172 (dk_at dksX6_remembers_1 4 rfl rfl)
theorem dX6_remembers_29 : decode cX6_remembers 29 = .ok (.aload_n 0, 1) := dk_42 (dk_at dksX6_remembers_1 5 rfl rfl)
theorem dX6_remembers_30 : decode cX6_remembers 30 = .ok (.getfield 24, 3) := dk_180 0 24 (dk_at dksX6_remembers_1 6 rfl rfl)
theorem dX6_remembers_33 : decode cX6_remembers 33 = .ok (.iload_n 1, 1) := dk_27 (dk_at dksX6_remembers_1 9 rfl rfl)
theorem dX6_remembers_34 : decode cX6_remembers 34 = .ok (.iaload, 1) := dk_46 (dk_at dksX6_remembers_1 10 rfl rfl)
theorem dX6_remembers_35 : decode cX6_remembers 35 = .ok (.aload_n 0, 1) := dk_42 (dk_at dksX6_remembers_1 11 rfl rfl)
theorem dX6_remembers_36 : decode cX6_remembers 36 = .ok (.getfield 7, 3) := dk_180 0 7 (dk_at dksX6_remembers_1 12 rfl rfl)
theorem dX6_remembers_39 : decode cX6_remembers 39 = .ok (.iconst 0, 1) := dk_3 (dk_at dksX6_remembers_1 15 rfl rfl)
theorem dX6_remembers_40 : decode cX6_remembers 40 = .ok (.iaload, 1) := dk_46 (dk_at dksX6_remembers_1 16 rfl rfl)
theorem dX6_remembers_41 : decode cX6_remembers 41 = .ok (.if_icmp .ge 9, 3) := dk_162 0 9 (dk_at dksX6_remembers_1 17 rfl rfl)
theorem dX6_remembers_44 : decode cX6_remembers 44 = .ok (.aload_n 0, 1) := dk_42 (dk_at dksX6_remembers_1 20 rfl rfl)
theorem dX6_remembers_45 : decode cX6_remembers 45 = .ok (.iconst 3, 1) := dk_6 (dk_at dksX6_remembers_1 21 rfl rfl)
theorem dX6_remembers_46 : decode cX6_remembers 46 = .ok (.invokevirtual 75, 3) := dk_182 0 75 (dk_at dksX6_remembers_2 0 rfl rfl)
theorem dX6_remembers_49 : decode cX6_remembers 49 = .ok (.ireturn, 1) := dk_172 (dk_at dksX6_remembers_2 3 rfl rfl)
theorem dX6_remembers_50 : decode cX6_remembers 50 = .ok (.iconst 0, 1) := dk_3 (dk_at dksX6_remembers_2 4 rfl rfl)
theorem dX6_remembers_51 : decode cX6_remembers 51 = .ok (.istore_n 2, 1) := dk_61 (dk_at dksX6_remembers_2 5 rfl rfl)
theorem dX6_remembers_52 : decode cX6_remembers 52 = .ok (.iload_n 2, 1) := dk_28 (dk_at dksX6_remembers_2 6 rfl rfl)
theorem dX6_remembers_53 : decode cX6_remembers 53 = .ok (.aload_n 0, 1) := dk_42 (dk_at dksX6_remembers_2 7 rfl rfl)
theorem dX6_remembers_54 : decode cX6_remembers 54 = .ok (.getfield 7, 3) := dk_180 0 7 (dk_at dksX6_remembers_2 8 rfl rfl)
theorem dX6_remembers_57 : decode cX6_remembers 57 = .ok (.iconst 0, 1) := dk_3 (dk_at dksX6_remembers_2 11 rfl rfl)
theorem dX6_remembers_58 : decode cX6_remembers 58 = .ok (.iaload, 1) := dk_46 (dk_at dksX6_remembers_2 12 rfl rfl)
theorem dX6_remembers_59 : decode cX6_remembers 59 = .ok (.if_icmp .ge 38, 3) := dk_162 0 38 (dk_at dksX6_remembers_2 13 rfl rfl)
theorem dX6_remembers_62 : decode cX6_remembers 62 = .ok (.aload_n 0, 1) := dk_42 (dk_at dksX6_remembers_2 16 rfl rfl)
theorem dX6_remembers_63 : decode cX6_remembers 63 = .ok (.getfield 27, 3) := dk_180 0 27 (dk_at dksX6_remembers_2 17 rfl rfl)
theorem dX6_remembers_66 : decode cX6_remembers 66 = .ok (.bipush 60, 2) := dk_16 60 (dk_at dksX6_remembers_2 20 rfl rfl)
theorem dX6_remembers_68 : decode cX6_remembers 68 = .ok (.iload_n 1, 1) := dk_27 (dk_at dksX6_remembers_2 22 rfl rfl)
theorem dX6_remembers_69 : decode cX6_remembers 69 = .ok (.imul, 1) := dk_104 (dk_at dksX6_remembers_2 23 rfl rfl)
theorem dX6_remembers_70 : decode cX6_remembers 70 = .ok (.iload_n 2, 1) := dk_28 (dk_at dksX6_remembers_3 0 rfl rfl)
theorem dX6_remembers_71 : decode cX6_remembers 71 = .ok (.iadd, 1) := dk_96 (dk_at dksX6_remembers_3 1 rfl rfl)
theorem dX6_remembers_72 : decode cX6_remembers 72 = .ok (.laload, 1) := dk_47 (dk_at dksX6_remembers_3 2 rfl rfl)
theorem dX6_remembers_73 : decode cX6_remembers 73 = .ok (.ldc2_w 417, 3) := dk_20 1 161 (dk_at dksX6_remembers_3 3 rfl rfl)
theorem dX6_remembers_76 : decode cX6_remembers 76 = .ok (.ldc2_w 419, 3) := dk_20 1 163 (dk_at dksX6_remembers_3 6 rfl rfl)
theorem dX6_remembers_79 : decode cX6_remembers 79 = .ok (.invokestatic 302, 3) := dk_184 1 46 (dk_at dksX6_remembers_3 9 rfl rfl)
theorem dX6_remembers_82 : decode cX6_remembers 82 = .ok (.ifCond .ne 9, 3) := dk_154 0 9 (dk_at dksX6_remembers_3 12 rfl rfl)
theorem dX6_remembers_85 : decode cX6_remembers 85 = .ok (.aload_n 0, 1) := dk_42 (dk_at dksX6_remembers_3 15 rfl rfl)
theorem dX6_remembers_86 : decode cX6_remembers 86 = .ok (.iconst 5, 1) := dk_8 (dk_at dksX6_remembers_3 16 rfl rfl)
theorem dX6_remembers_87 : decode cX6_remembers 87 = .ok (.invokevirtual 75, 3) := dk_182 0 75 (dk_at dksX6_remembers_3 17 rfl rfl)
theorem dX6_remembers_90 : decode cX6_remembers 90 = .ok (.ireturn, 1) := dk_172 (dk_at dksX6_remembers_3 20 rfl rfl)
theorem dX6_remembers_91 : decode cX6_remembers 91 = .ok (.iinc 2 1, 3) := dk_132 2 1 (dk_at dksX6_remembers_3 21 rfl rfl)
theorem dX6_remembers_94 : decode cX6_remembers 94 = .ok (.goto (-42), 3) := dk_167 255 214 (dk_at dksX6_remembers_4 0 rfl rfl)
theorem dX6_remembers_97 : decode cX6_remembers 97 = .ok (.iconst (-1), 1) := dk_2 (dk_at dksX6_remembers_4 3 rfl rfl)
theorem dX6_remembers_98 : decode cX6_remembers 98 = .ok (.istore_n 2, 1) := dk_61 (dk_at dksX6_remembers_4 4 rfl rfl)
theorem dX6_remembers_99 : decode cX6_remembers 99 = .ok (.lconst 0, 1) := dk_9 (dk_at dksX6_remembers_4 5 rfl rfl)
theorem dX6_remembers_100 : decode cX6_remembers 100 = .ok (.lstore_n 3, 1) := dk_66 (dk_at dksX6_remembers_4 6 rfl rfl)
theorem dX6_remembers_101 : decode cX6_remembers 101 = .ok (.iconst 0, 1) := dk_3 (dk_at dksX6_remembers_4 7 rfl rfl)
theorem dX6_remembers_102 : decode cX6_remembers 102 = .ok (.istore 5, 2) := dk_54 5 (dk_at dksX6_remembers_4 8 rfl rfl)
theorem dX6_remembers_104 : decode cX6_remembers 104 = .ok (.iload 5, 2) := dk_21 5 (dk_at dksX6_remembers_4 10 rfl rfl)
theorem dX6_remembers_106 : decode cX6_remembers 106 = .ok (.aload_n 0, 1) := dk_42 (dk_at dksX6_remembers_4 12 rfl rfl)
theorem dX6_remembers_107 : decode cX6_remembers 107 = .ok (.getfield 7, 3) := dk_180 0 7 (dk_at dksX6_remembers_4 13 rfl rfl)
theorem dX6_remembers_110 : decode cX6_remembers 110 = .ok (.iconst 0, 1) := dk_3 (dk_at dksX6_remembers_4 16 rfl rfl)
theorem dX6_remembers_111 : decode cX6_remembers 111 = .ok (.iaload, 1) := dk_46 (dk_at dksX6_remembers_4 17 rfl rfl)
theorem dX6_remembers_112 : decode cX6_remembers 112 = .ok (.if_icmp .ge 50, 3) := dk_162 0 50 (dk_at dksX6_remembers_4 18 rfl rfl)
theorem dX6_remembers_115 : decode cX6_remembers 115 = .ok (.aload_n 0, 1) := dk_42 (dk_at dksX6_remembers_4 21 rfl rfl)
theorem dX6_remembers_116 : decode cX6_remembers 116 = .ok (.getfield 27, 3) := dk_180 0 27 (dk_at dksX6_remembers_5 0 rfl rfl)
theorem dX6_remembers_119 : decode cX6_remembers 119 = .ok (.bipush 60, 2) := dk_16 60 (dk_at dksX6_remembers_5 3 rfl rfl)
theorem dX6_remembers_121 : decode cX6_remembers 121 = .ok (.iload_n 1, 1) := dk_27 (dk_at dksX6_remembers_5 5 rfl rfl)
theorem dX6_remembers_122 : decode cX6_remembers 122 = .ok (.imul, 1) := dk_104 (dk_at dksX6_remembers_5 6 rfl rfl)
theorem dX6_remembers_123 : decode cX6_remembers 123 = .ok (.iload 5, 2) := dk_21 5 (dk_at dksX6_remembers_5 7 rfl rfl)
theorem dX6_remembers_125 : decode cX6_remembers 125 = .ok (.iadd, 1) := dk_96 (dk_at dksX6_remembers_5 9 rfl rfl)
theorem dX6_remembers_126 : decode cX6_remembers 126 = .ok (.laload, 1) := dk_47 (dk_at dksX6_remembers_5 10 rfl rfl)
theorem dX6_remembers_127 : decode cX6_remembers 127 = .ok (.aload_n 0, 1) := dk_42 (dk_at dksX6_remembers_5 11 rfl rfl)
theorem dX6_remembers_128 : decode cX6_remembers 128 = .ok (.iload 5, 2) := dk_21 5 (dk_at dksX6_remembers_5 12 rfl rfl)
theorem dX6_remembers_130 : decode cX6_remembers 130 = .ok (.invokevirtual 319, 3) := dk_182 1 63 (dk_at dksX6_remembers_5 14 rfl rfl)
theorem dX6_remembers_133 : decode cX6_remembers 133 = .ok (.i2l, 1) := dk_133 (dk_at dksX6_remembers_5 17 rfl rfl)
theorem dX6_remembers_134 : decode cX6_remembers 134 = .ok (.lsub, 1) := dk_101 (dk_at dksX6_remembers_5 18 rfl rfl)
theorem dX6_remembers_135 : decode cX6_remembers 135 = .ok (.invokestatic 421, 3) := dk_184 1 165 (dk_at dksX6_remembers_5 19 rfl rfl)
theorem dX6_remembers_138 : decode cX6_remembers 138 = .ok (.lstore 6, 2) := dk_55 6 (dk_at dksX6_remembers_5 22 rfl rfl)
theorem dX6_remembers_140 : decode cX6_remembers 140 = .ok (.lload 6, 2) := dk_22 6 (dk_at dksX6_remembers_6 0 rfl rfl)
theorem dX6_remembers_142 : decode cX6_remembers 142 = .ok (.lload_n 3, 1) := dk_33 (dk_at dksX6_remembers_6 2 rfl rfl)
theorem dX6_remembers_143 : decode cX6_remembers 143 = .ok (.lcmp, 1) := dk_148 (dk_at dksX6_remembers_6 3 rfl rfl)
theorem dX6_remembers_144 : decode cX6_remembers 144 = .ok (.ifCond .gt 6, 3) := dk_157 0 6 (dk_at dksX6_remembers_6 4 rfl rfl)
theorem dX6_remembers_147 : decode cX6_remembers 147 = .ok (.goto 9, 3) := dk_167 0 9 (dk_at dksX6_remembers_6 7 rfl rfl)
theorem dX6_remembers_150 : decode cX6_remembers 150 = .ok (.lload 6, 2) := dk_22 6 (dk_at dksX6_remembers_6 10 rfl rfl)
theorem dX6_remembers_152 : decode cX6_remembers 152 = .ok (.lstore_n 3, 1) := dk_66 (dk_at dksX6_remembers_6 12 rfl rfl)
theorem dX6_remembers_153 : decode cX6_remembers 153 = .ok (.iload 5, 2) := dk_21 5 (dk_at dksX6_remembers_6 13 rfl rfl)
theorem dX6_remembers_155 : decode cX6_remembers 155 = .ok (.istore_n 2, 1) := dk_61 (dk_at dksX6_remembers_6 15 rfl rfl)
theorem dX6_remembers_156 : decode cX6_remembers 156 = .ok (.iinc 5 1, 3) := dk_132 5 1 (dk_at dksX6_remembers_6 16 rfl rfl)
theorem dX6_remembers_159 : decode cX6_remembers 159 = .ok (.goto (-55), 3) := dk_167 255 201 (dk_at dksX6_remembers_6 19 rfl rfl)
theorem dX6_remembers_162 : decode cX6_remembers 162 = .ok (.aload_n 0, 1) := dk_42 (dk_at dksX6_remembers_6 22 rfl rfl)
theorem dX6_remembers_163 : decode cX6_remembers 163 = .ok (.iload_n 2, 1) := dk_28 (dk_at dksX6_remembers_6 23 rfl rfl)
theorem dX6_remembers_164 : decode cX6_remembers 164 = .ok (.invokevirtual 291, 3) := dk_182 1 35 (dk_at dksX6_remembers_7 0 rfl rfl)
theorem dX6_remembers_167 : decode cX6_remembers 167 = .ok (.ireturn, 1) := dk_172 (dk_at dksX6_remembers_7 3 rfl rfl)
abbrev cX6_live : ByteArray := prog_16_method_149_code
def yX6_live : MethodName := ⟨RX6, "live", "(I)I"⟩
def dkwX6_live_3 : List UInt8 := [42, 180, 1, 184, 182, 0, 79, 172]
abbrev dktX6_live_3 : List UInt8 := dkwX6_live_3 ++ []
def dkwX6_live_2 : List UInt8 := [42, 180, 0, 62, 28, 42, 180, 0, 59, 28, 46, 79, 132, 2, 1, 167, 255, 236, 42, 4, 181, 1, 199, 42]
abbrev dktX6_live_2 : List UInt8 := dkwX6_live_2 ++ dktX6_live_3
def dkwX6_live_1 : List UInt8 := [46, 2, 160, 0, 10, 42, 16, 6, 182, 0, 75, 172, 42, 27, 182, 1, 196, 3, 61, 28, 8, 162, 0, 21]
abbrev dktX6_live_1 : List UInt8 := dkwX6_live_1 ++ dktX6_live_2
def dkwX6_live_0 : List UInt8 := [27, 133, 9, 20, 1, 52, 184, 1, 46, 154, 0, 9, 42, 4, 182, 0, 75, 172, 42, 180, 0, 7, 16, 9]
abbrev dktX6_live_0 : List UInt8 := dkwX6_live_0 ++ dktX6_live_1
theorem dksX6_live_0 : cX6_live.data.toList.drop 0 = dktX6_live_0 := by decide +kernel
theorem dksX6_live_1 : cX6_live.data.toList.drop 24 = dktX6_live_1 := dk_seg dksX6_live_0 24 rfl rfl
theorem dksX6_live_2 : cX6_live.data.toList.drop 48 = dktX6_live_2 := dk_seg dksX6_live_1 24 rfl rfl
theorem dksX6_live_3 : cX6_live.data.toList.drop 72 = dktX6_live_3 := dk_seg dksX6_live_2 24 rfl rfl
theorem dX6_live_0 : decode cX6_live 0 = .ok (.iload_n 1, 1) := dk_27 (dk_at dksX6_live_0 0 rfl rfl)
theorem dX6_live_1 : decode cX6_live 1 = .ok (.i2l, 1) := dk_133 (dk_at dksX6_live_0 1 rfl rfl)
theorem dX6_live_2 : decode cX6_live 2 = .ok (.lconst 0, 1) := dk_9 (dk_at dksX6_live_0 2 rfl rfl)
theorem dX6_live_3 : decode cX6_live 3 = .ok (.ldc2_w 308, 3) := dk_20 1 52 (dk_at dksX6_live_0 3 rfl rfl)
theorem dX6_live_6 : decode cX6_live 6 = .ok (.invokestatic 302, 3) := dk_184 1 46 (dk_at dksX6_live_0 6 rfl rfl)
theorem dX6_live_9 : decode cX6_live 9 = .ok (.ifCond .ne 9, 3) := dk_154 0 9 (dk_at dksX6_live_0 9 rfl rfl)
theorem dX6_live_12 : decode cX6_live 12 = .ok (.aload_n 0, 1) := dk_42 (dk_at dksX6_live_0 12 rfl rfl)
theorem dX6_live_13 : decode cX6_live 13 = .ok (.iconst 1, 1) := dk_4 (dk_at dksX6_live_0 13 rfl rfl)
theorem dX6_live_14 : decode cX6_live 14 = .ok (.invokevirtual 75, 3) := dk_182 0 75 (dk_at dksX6_live_0 14 rfl rfl)
theorem dX6_live_17 : decode cX6_live 17 = .ok (.ireturn, 1) := dk_172 (dk_at dksX6_live_0 17 rfl rfl)
theorem dX6_live_18 : decode cX6_live 18 = .ok (.aload_n 0, 1) := dk_42 (dk_at dksX6_live_0 18 rfl rfl)
theorem dX6_live_19 : decode cX6_live 19 = .ok (.getfield 7, 3) := dk_180 0 7 (dk_at dksX6_live_0 19 rfl rfl)
theorem dX6_live_22 : decode cX6_live 22 = .ok (.bipush 9, 2) := dk_16 9 (dk_at dksX6_live_0 22 rfl rfl)
theorem dX6_live_24 : decode cX6_live 24 = .ok (.iaload, 1) := dk_46 (dk_at dksX6_live_1 0 rfl rfl)
theorem dX6_live_25 : decode cX6_live 25 = .ok (.iconst (-1), 1) := dk_2 (dk_at dksX6_live_1 1 rfl rfl)
theorem dX6_live_26 : decode cX6_live 26 = .ok (.if_icmp .ne 10, 3) := dk_160 0 10 (dk_at dksX6_live_1 2 rfl rfl)
theorem dX6_live_29 : decode cX6_live 29 = .ok (.aload_n 0, 1) := dk_42 (dk_at dksX6_live_1 5 rfl rfl)
theorem dX6_live_30 : decode cX6_live 30 = .ok (.bipush 6, 2) := dk_16 6 (dk_at dksX6_live_1 6 rfl rfl)
theorem dX6_live_32 : decode cX6_live 32 = .ok (.invokevirtual 75, 3) := dk_182 0 75 (dk_at dksX6_live_1 8 rfl rfl)
theorem dX6_live_35 : decode cX6_live 35 = .ok (.ireturn, 1) := dk_172 (dk_at dksX6_live_1 11 rfl rfl)
theorem dX6_live_36 : decode cX6_live 36 = .ok (.aload_n 0, 1) := dk_42 (dk_at dksX6_live_1 12 rfl rfl)
theorem dX6_live_37 : decode cX6_live 37 = .ok (.iload_n 1, 1) := dk_27 (dk_at dksX6_live_1 13 rfl rfl)
theorem dX6_live_38 : decode cX6_live 38 = .ok (.invokevirtual 452, 3) := dk_182 1 196 (dk_at dksX6_live_1 14 rfl rfl)
theorem dX6_live_41 : decode cX6_live 41 = .ok (.iconst 0, 1) := dk_3 (dk_at dksX6_live_1 17 rfl rfl)
theorem dX6_live_42 : decode cX6_live 42 = .ok (.istore_n 2, 1) := dk_61 (dk_at dksX6_live_1 18 rfl rfl)
theorem dX6_live_43 : decode cX6_live 43 = .ok (.iload_n 2, 1) := dk_28 (dk_at dksX6_live_1 19 rfl rfl)
theorem dX6_live_44 : decode cX6_live 44 = .ok (.iconst 5, 1) := dk_8 (dk_at dksX6_live_1 20 rfl rfl)
theorem dX6_live_45 : decode cX6_live 45 = .ok (.if_icmp .ge 21, 3) := dk_162 0 21 (dk_at dksX6_live_1 21 rfl rfl)
theorem dX6_live_48 : decode cX6_live 48 = .ok (.aload_n 0, 1) := dk_42 (dk_at dksX6_live_2 0 rfl rfl)
theorem dX6_live_49 : decode cX6_live 49 = .ok (.getfield 62, 3) := dk_180 0 62 (dk_at dksX6_live_2 1 rfl rfl)
theorem dX6_live_52 : decode cX6_live 52 = .ok (.iload_n 2, 1) := dk_28 (dk_at dksX6_live_2 4 rfl rfl)
theorem dX6_live_53 : decode cX6_live 53 = .ok (.aload_n 0, 1) := dk_42 (dk_at dksX6_live_2 5 rfl rfl)
theorem dX6_live_54 : decode cX6_live 54 = .ok (.getfield 59, 3) := dk_180 0 59 (dk_at dksX6_live_2 6 rfl rfl)
theorem dX6_live_57 : decode cX6_live 57 = .ok (.iload_n 2, 1) := dk_28 (dk_at dksX6_live_2 9 rfl rfl)
theorem dX6_live_58 : decode cX6_live 58 = .ok (.iaload, 1) := dk_46 (dk_at dksX6_live_2 10 rfl rfl)
theorem dX6_live_59 : decode cX6_live 59 = .ok (.iastore, 1) := dk_79 (dk_at dksX6_live_2 11 rfl rfl)
theorem dX6_live_60 : decode cX6_live 60 = .ok (.iinc 2 1, 3) := dk_132 2 1 (dk_at dksX6_live_2 12 rfl rfl)
theorem dX6_live_63 : decode cX6_live 63 = .ok (.goto (-20), 3) := dk_167 255 236 (dk_at dksX6_live_2 15 rfl rfl)
theorem dX6_live_66 : decode cX6_live 66 = .ok (.aload_n 0, 1) := dk_42 (dk_at dksX6_live_2 18 rfl rfl)
theorem dX6_live_67 : decode cX6_live 67 = .ok (.iconst 1, 1) := dk_4 (dk_at dksX6_live_2 19 rfl rfl)
theorem dX6_live_68 : decode cX6_live 68 = .ok (.putfield 455, 3) := dk_181 1 199 (dk_at dksX6_live_2 20 rfl rfl)
theorem dX6_live_71 : decode cX6_live 71 = .ok (.aload_n 0, 1) := dk_42 (dk_at dksX6_live_2 23 rfl rfl)
theorem dX6_live_72 : decode cX6_live 72 = .ok (.aload_n 0, 1) := dk_42 (dk_at dksX6_live_3 0 rfl rfl)
theorem dX6_live_73 : decode cX6_live 73 = .ok (.getfield 440, 3) := dk_180 1 184 (dk_at dksX6_live_3 1 rfl rfl)
theorem dX6_live_76 : decode cX6_live 76 = .ok (.invokevirtual 79, 3) := dk_182 0 79 (dk_at dksX6_live_3 4 rfl rfl)
theorem dX6_live_79 : decode cX6_live 79 = .ok (.ireturn, 1) := dk_172 (dk_at dksX6_live_3 7 rfl rfl)
abbrev cX6_lives : ByteArray := prog_16_method_148_code
def yX6_lives : MethodName := ⟨RX6, "lives", "(I)V"⟩
def dkwX6_lives_7 : List UInt8 := [180, 0, 7, 29, 7, 96, 46, 4, 96, 167, 0, 6, 28, 4, 96, 182, 1, 193, 61, 167, 255, 106, 177]
abbrev dktX6_lives_7 : List UInt8 := dkwX6_lives_7 ++ []
def dkwX6_lives_6 : List UInt8 := [100, 79, 42, 42, 180, 0, 7, 29, 46, 17, 9, 96, 161, 0, 24, 42, 29, 182, 1, 190, 154, 0, 16, 42]
abbrev dktX6_lives_6 : List UInt8 := dkwX6_lives_6 ++ dktX6_lives_7
def dkwX6_lives_5 : List UInt8 := [180, 0, 7, 29, 46, 16, 25, 160, 0, 19, 42, 180, 0, 56, 28, 42, 180, 0, 7, 29, 4, 96, 46, 4]
abbrev dktX6_lives_5 : List UInt8 := dkwX6_lives_5 ++ dktX6_lives_6
def dkwX6_lives_4 : List UInt8 := [180, 0, 59, 3, 92, 46, 42, 29, 182, 1, 187, 153, 0, 7, 3, 167, 0, 4, 4, 96, 79, 42]
abbrev dktX6_lives_4 : List UInt8 := dkwX6_lives_4 ++ dktX6_lives_5
def dkwX6_lives_3 : List UInt8 := [89, 180, 1, 184, 4, 96, 181, 1, 184, 42, 180, 0, 7, 29, 46, 16, 27, 160, 0, 4, 177, 42]
abbrev dktX6_lives_3 : List UInt8 := dkwX6_lives_3 ++ dktX6_lives_4
def dkwX6_lives_2 : List UInt8 := [17, 1, 44, 160, 0, 11, 42, 180, 0, 59, 7, 4, 79, 177, 17, 0, 130, 16, 6, 28, 104, 96, 62, 42]
abbrev dktX6_lives_2 : List UInt8 := dkwX6_lives_2 ++ dktX6_lives_3
def dkwX6_lives_1 : List UInt8 := [132, 2, 1, 167, 255, 241, 3, 61, 28, 42, 180, 0, 7, 16, 9, 46, 162, 0, 145, 42, 180, 1, 184]
abbrev dktX6_lives_1 : List UInt8 := dkwX6_lives_1 ++ dktX6_lives_2
def dkwX6_lives_0 : List UInt8 := [42, 27, 181, 1, 168, 42, 3, 181, 1, 184, 3, 61, 28, 8, 162, 0, 16, 42, 180, 0, 59, 28, 3, 79]
abbrev dktX6_lives_0 : List UInt8 := dkwX6_lives_0 ++ dktX6_lives_1
theorem dksX6_lives_0 : cX6_lives.data.toList.drop 0 = dktX6_lives_0 := by decide +kernel
theorem dksX6_lives_1 : cX6_lives.data.toList.drop 24 = dktX6_lives_1 := dk_seg dksX6_lives_0 24 rfl rfl
theorem dksX6_lives_2 : cX6_lives.data.toList.drop 47 = dktX6_lives_2 := dk_seg dksX6_lives_1 23 rfl rfl
theorem dksX6_lives_3 : cX6_lives.data.toList.drop 71 = dktX6_lives_3 := dk_seg dksX6_lives_2 24 rfl rfl
theorem dksX6_lives_4 : cX6_lives.data.toList.drop 93 = dktX6_lives_4 := dk_seg dksX6_lives_3 22 rfl rfl
theorem dksX6_lives_5 : cX6_lives.data.toList.drop 115 = dktX6_lives_5 := dk_seg dksX6_lives_4 22 rfl rfl
theorem dksX6_lives_6 : cX6_lives.data.toList.drop 139 = dktX6_lives_6 := dk_seg dksX6_lives_5 24 rfl rfl
theorem dksX6_lives_7 : cX6_lives.data.toList.drop 163 = dktX6_lives_7 := dk_seg dksX6_lives_6 24 rfl rfl
theorem dX6_lives_0 : decode cX6_lives 0 = .ok (.aload_n 0, 1) := dk_42 (dk_at dksX6_lives_0 0 rfl rfl)
theorem dX6_lives_1 : decode cX6_lives 1 = .ok (.iload_n 1, 1) := dk_27 (dk_at dksX6_lives_0 1 rfl rfl)
theorem dX6_lives_2 : decode cX6_lives 2 = .ok (.putfield 424, 3) := dk_181 1 168 (dk_at dksX6_lives_0 2 rfl rfl)
theorem dX6_lives_5 : decode cX6_lives 5 = .ok (.aload_n 0, 1) := dk_42 (dk_at dksX6_lives_0 5 rfl rfl)
theorem dX6_lives_6 : decode cX6_lives 6 = .ok (.iconst 0, 1) := dk_3 (dk_at dksX6_lives_0 6 rfl rfl)
theorem dX6_lives_7 : decode cX6_lives 7 = .ok (.putfield 440, 3) := dk_181 1 184 (dk_at dksX6_lives_0 7 rfl rfl)
theorem dX6_lives_10 : decode cX6_lives 10 = .ok (.iconst 0, 1) := dk_3 (dk_at dksX6_lives_0 10 rfl rfl)
theorem dX6_lives_11 : decode cX6_lives 11 = .ok (.istore_n 2, 1) := dk_61 (dk_at dksX6_lives_0 11 rfl rfl)
theorem dX6_lives_12 : decode cX6_lives 12 = .ok (.iload_n 2, 1) := dk_28 (dk_at dksX6_lives_0 12 rfl rfl)
theorem dX6_lives_13 : decode cX6_lives 13 = .ok (.iconst 5, 1) := dk_8 (dk_at dksX6_lives_0 13 rfl rfl)
theorem dX6_lives_14 : decode cX6_lives 14 = .ok (.if_icmp .ge 16, 3) := dk_162 0 16 (dk_at dksX6_lives_0 14 rfl rfl)
theorem dX6_lives_17 : decode cX6_lives 17 = .ok (.aload_n 0, 1) := dk_42 (dk_at dksX6_lives_0 17 rfl rfl)
theorem dX6_lives_18 : decode cX6_lives 18 = .ok (.getfield 59, 3) := dk_180 0 59 (dk_at dksX6_lives_0 18 rfl rfl)
theorem dX6_lives_21 : decode cX6_lives 21 = .ok (.iload_n 2, 1) := dk_28 (dk_at dksX6_lives_0 21 rfl rfl)
theorem dX6_lives_22 : decode cX6_lives 22 = .ok (.iconst 0, 1) := dk_3 (dk_at dksX6_lives_0 22 rfl rfl)
theorem dX6_lives_23 : decode cX6_lives 23 = .ok (.iastore, 1) := dk_79 (dk_at dksX6_lives_0 23 rfl rfl)
theorem dX6_lives_24 : decode cX6_lives 24 = .ok (.iinc 2 1, 3) := dk_132 2 1 (dk_at dksX6_lives_1 0 rfl rfl)
theorem dX6_lives_27 : decode cX6_lives 27 = .ok (.goto (-15), 3) := dk_167 255 241 (dk_at dksX6_lives_1 3 rfl rfl)
theorem dX6_lives_30 : decode cX6_lives 30 = .ok (.iconst 0, 1) := dk_3 (dk_at dksX6_lives_1 6 rfl rfl)
theorem dX6_lives_31 : decode cX6_lives 31 = .ok (.istore_n 2, 1) := dk_61 (dk_at dksX6_lives_1 7 rfl rfl)
theorem dX6_lives_32 : decode cX6_lives 32 = .ok (.iload_n 2, 1) := dk_28 (dk_at dksX6_lives_1 8 rfl rfl)
theorem dX6_lives_33 : decode cX6_lives 33 = .ok (.aload_n 0, 1) := dk_42 (dk_at dksX6_lives_1 9 rfl rfl)
theorem dX6_lives_34 : decode cX6_lives 34 = .ok (.getfield 7, 3) := dk_180 0 7 (dk_at dksX6_lives_1 10 rfl rfl)
theorem dX6_lives_37 : decode cX6_lives 37 = .ok (.bipush 9, 2) := dk_16 9 (dk_at dksX6_lives_1 13 rfl rfl)
theorem dX6_lives_39 : decode cX6_lives 39 = .ok (.iaload, 1) := dk_46 (dk_at dksX6_lives_1 15 rfl rfl)
theorem dX6_lives_40 : decode cX6_lives 40 = .ok (.if_icmp .ge 145, 3) := dk_162 0 145 (dk_at dksX6_lives_1 16 rfl rfl)
theorem dX6_lives_43 : decode cX6_lives 43 = .ok (.aload_n 0, 1) := dk_42 (dk_at dksX6_lives_1 19 rfl rfl)
theorem dX6_lives_44 : decode cX6_lives 44 = .ok (.getfield 440, 3) := dk_180 1 184 (dk_at dksX6_lives_1 20 rfl rfl)
theorem dX6_lives_47 : decode cX6_lives 47 = .ok (.sipush 300, 3) := dk_17 1 44 (dk_at dksX6_lives_2 0 rfl rfl)
theorem dX6_lives_50 : decode cX6_lives 50 = .ok (.if_icmp .ne 11, 3) := dk_160 0 11 (dk_at dksX6_lives_2 3 rfl rfl)
theorem dX6_lives_53 : decode cX6_lives 53 = .ok (.aload_n 0, 1) := dk_42 (dk_at dksX6_lives_2 6 rfl rfl)
theorem dX6_lives_54 : decode cX6_lives 54 = .ok (.getfield 59, 3) := dk_180 0 59 (dk_at dksX6_lives_2 7 rfl rfl)
theorem dX6_lives_57 : decode cX6_lives 57 = .ok (.iconst 4, 1) := dk_7 (dk_at dksX6_lives_2 10 rfl rfl)
theorem dX6_lives_58 : decode cX6_lives 58 = .ok (.iconst 1, 1) := dk_4 (dk_at dksX6_lives_2 11 rfl rfl)
theorem dX6_lives_59 : decode cX6_lives 59 = .ok (.iastore, 1) := dk_79 (dk_at dksX6_lives_2 12 rfl rfl)
theorem dX6_lives_60 : decode cX6_lives 60 = .ok (.return_, 1) := dk_177 (dk_at dksX6_lives_2 13 rfl rfl)
theorem dX6_lives_61 : decode cX6_lives 61 = .ok (.sipush 130, 3) := dk_17 0 130 (dk_at dksX6_lives_2 14 rfl rfl)
theorem dX6_lives_64 : decode cX6_lives 64 = .ok (.bipush 6, 2) := dk_16 6 (dk_at dksX6_lives_2 17 rfl rfl)
theorem dX6_lives_66 : decode cX6_lives 66 = .ok (.iload_n 2, 1) := dk_28 (dk_at dksX6_lives_2 19 rfl rfl)
theorem dX6_lives_67 : decode cX6_lives 67 = .ok (.imul, 1) := dk_104 (dk_at dksX6_lives_2 20 rfl rfl)
theorem dX6_lives_68 : decode cX6_lives 68 = .ok (.iadd, 1) := dk_96 (dk_at dksX6_lives_2 21 rfl rfl)
theorem dX6_lives_69 : decode cX6_lives 69 = .ok (.istore_n 3, 1) := dk_62 (dk_at dksX6_lives_2 22 rfl rfl)
theorem dX6_lives_70 : decode cX6_lives 70 = .ok (.aload_n 0, 1) := dk_42 (dk_at dksX6_lives_2 23 rfl rfl)
theorem dX6_lives_71 : decode cX6_lives 71 = .ok (.dup, 1) := dk_89 (dk_at dksX6_lives_3 0 rfl rfl)
theorem dX6_lives_72 : decode cX6_lives 72 = .ok (.getfield 440, 3) := dk_180 1 184 (dk_at dksX6_lives_3 1 rfl rfl)
theorem dX6_lives_75 : decode cX6_lives 75 = .ok (.iconst 1, 1) := dk_4 (dk_at dksX6_lives_3 4 rfl rfl)
theorem dX6_lives_76 : decode cX6_lives 76 = .ok (.iadd, 1) := dk_96 (dk_at dksX6_lives_3 5 rfl rfl)
theorem dX6_lives_77 : decode cX6_lives 77 = .ok (.putfield 440, 3) := dk_181 1 184 (dk_at dksX6_lives_3 6 rfl rfl)
theorem dX6_lives_80 : decode cX6_lives 80 = .ok (.aload_n 0, 1) := dk_42 (dk_at dksX6_lives_3 9 rfl rfl)
theorem dX6_lives_81 : decode cX6_lives 81 = .ok (.getfield 7, 3) := dk_180 0 7 (dk_at dksX6_lives_3 10 rfl rfl)
theorem dX6_lives_84 : decode cX6_lives 84 = .ok (.iload_n 3, 1) := dk_29 (dk_at dksX6_lives_3 13 rfl rfl)
theorem dX6_lives_85 : decode cX6_lives 85 = .ok (.iaload, 1) := dk_46 (dk_at dksX6_lives_3 14 rfl rfl)
theorem dX6_lives_86 : decode cX6_lives 86 = .ok (.bipush 27, 2) := dk_16 27 (dk_at dksX6_lives_3 15 rfl rfl)
theorem dX6_lives_88 : decode cX6_lives 88 = .ok (.if_icmp .ne 4, 3) := dk_160 0 4 (dk_at dksX6_lives_3 17 rfl rfl)
theorem dX6_lives_91 : decode cX6_lives 91 = .ok (.return_, 1) := dk_177 (dk_at dksX6_lives_3 20 rfl rfl)
theorem dX6_lives_92 : decode cX6_lives 92 = .ok (.aload_n 0, 1) := dk_42 (dk_at dksX6_lives_3 21 rfl rfl)
theorem dX6_lives_93 : decode cX6_lives 93 = .ok (.getfield 59, 3) := dk_180 0 59 (dk_at dksX6_lives_4 0 rfl rfl)
theorem dX6_lives_96 : decode cX6_lives 96 = .ok (.iconst 0, 1) := dk_3 (dk_at dksX6_lives_4 3 rfl rfl)
theorem dX6_lives_97 : decode cX6_lives 97 = .ok (.dup2, 1) := dk_92 (dk_at dksX6_lives_4 4 rfl rfl)
theorem dX6_lives_98 : decode cX6_lives 98 = .ok (.iaload, 1) := dk_46 (dk_at dksX6_lives_4 5 rfl rfl)
theorem dX6_lives_99 : decode cX6_lives 99 = .ok (.aload_n 0, 1) := dk_42 (dk_at dksX6_lives_4 6 rfl rfl)
theorem dX6_lives_100 : decode cX6_lives 100 = .ok (.iload_n 3, 1) := dk_29 (dk_at dksX6_lives_4 7 rfl rfl)
theorem dX6_lives_101 : decode cX6_lives 101 = .ok (.invokevirtual 443, 3) := dk_182 1 187 (dk_at dksX6_lives_4 8 rfl rfl)
theorem dX6_lives_104 : decode cX6_lives 104 = .ok (.ifCond .eq 7, 3) := dk_153 0 7 (dk_at dksX6_lives_4 11 rfl rfl)
theorem dX6_lives_107 : decode cX6_lives 107 = .ok (.iconst 0, 1) := dk_3 (dk_at dksX6_lives_4 14 rfl rfl)
theorem dX6_lives_108 : decode cX6_lives 108 = .ok (.goto 4, 3) := dk_167 0 4 (dk_at dksX6_lives_4 15 rfl rfl)
theorem dX6_lives_111 : decode cX6_lives 111 = .ok (.iconst 1, 1) := dk_4 (dk_at dksX6_lives_4 18 rfl rfl)
theorem dX6_lives_112 : decode cX6_lives 112 = .ok (.iadd, 1) := dk_96 (dk_at dksX6_lives_4 19 rfl rfl)
theorem dX6_lives_113 : decode cX6_lives 113 = .ok (.iastore, 1) := dk_79 (dk_at dksX6_lives_4 20 rfl rfl)
theorem dX6_lives_114 : decode cX6_lives 114 = .ok (.aload_n 0, 1) := dk_42 (dk_at dksX6_lives_4 21 rfl rfl)
theorem dX6_lives_115 : decode cX6_lives 115 = .ok (.getfield 7, 3) := dk_180 0 7 (dk_at dksX6_lives_5 0 rfl rfl)
theorem dX6_lives_118 : decode cX6_lives 118 = .ok (.iload_n 3, 1) := dk_29 (dk_at dksX6_lives_5 3 rfl rfl)
theorem dX6_lives_119 : decode cX6_lives 119 = .ok (.iaload, 1) := dk_46 (dk_at dksX6_lives_5 4 rfl rfl)
theorem dX6_lives_120 : decode cX6_lives 120 = .ok (.bipush 25, 2) := dk_16 25 (dk_at dksX6_lives_5 5 rfl rfl)
theorem dX6_lives_122 : decode cX6_lives 122 = .ok (.if_icmp .ne 19, 3) := dk_160 0 19 (dk_at dksX6_lives_5 7 rfl rfl)
theorem dX6_lives_125 : decode cX6_lives 125 = .ok (.aload_n 0, 1) := dk_42 (dk_at dksX6_lives_5 10 rfl rfl)
theorem dX6_lives_126 : decode cX6_lives 126 = .ok (.getfield 56, 3) := dk_180 0 56 (dk_at dksX6_lives_5 11 rfl rfl)
theorem dX6_lives_129 : decode cX6_lives 129 = .ok (.iload_n 2, 1) := dk_28 (dk_at dksX6_lives_5 14 rfl rfl)
theorem dX6_lives_130 : decode cX6_lives 130 = .ok (.aload_n 0, 1) := dk_42 (dk_at dksX6_lives_5 15 rfl rfl)
theorem dX6_lives_131 : decode cX6_lives 131 = .ok (.getfield 7, 3) := dk_180 0 7 (dk_at dksX6_lives_5 16 rfl rfl)
theorem dX6_lives_134 : decode cX6_lives 134 = .ok (.iload_n 3, 1) := dk_29 (dk_at dksX6_lives_5 19 rfl rfl)
theorem dX6_lives_135 : decode cX6_lives 135 = .ok (.iconst 1, 1) := dk_4 (dk_at dksX6_lives_5 20 rfl rfl)
theorem dX6_lives_136 : decode cX6_lives 136 = .ok (.iadd, 1) := dk_96 (dk_at dksX6_lives_5 21 rfl rfl)
theorem dX6_lives_137 : decode cX6_lives 137 = .ok (.iaload, 1) := dk_46 (dk_at dksX6_lives_5 22 rfl rfl)
theorem dX6_lives_138 : decode cX6_lives 138 = .ok (.iconst 1, 1) := dk_4 (dk_at dksX6_lives_5 23 rfl rfl)
theorem dX6_lives_139 : decode cX6_lives 139 = .ok (.isub, 1) := dk_100 (dk_at dksX6_lives_6 0 rfl rfl)
theorem dX6_lives_140 : decode cX6_lives 140 = .ok (.iastore, 1) := dk_79 (dk_at dksX6_lives_6 1 rfl rfl)
theorem dX6_lives_141 : decode cX6_lives 141 = .ok (.aload_n 0, 1) := dk_42 (dk_at dksX6_lives_6 2 rfl rfl)
theorem dX6_lives_142 : decode cX6_lives 142 = .ok (.aload_n 0, 1) := dk_42 (dk_at dksX6_lives_6 3 rfl rfl)
theorem dX6_lives_143 : decode cX6_lives 143 = .ok (.getfield 7, 3) := dk_180 0 7 (dk_at dksX6_lives_6 4 rfl rfl)
theorem dX6_lives_146 : decode cX6_lives 146 = .ok (.iload_n 3, 1) := dk_29 (dk_at dksX6_lives_6 7 rfl rfl)
theorem dX6_lives_147 : decode cX6_lives 147 = .ok (.iaload, 1) := dk_46 (dk_at dksX6_lives_6 8 rfl rfl)
theorem dX6_lives_148 : decode cX6_lives 148 = .ok (.sipush 2400, 3) := dk_17 9 96 (dk_at dksX6_lives_6 9 rfl rfl)
theorem dX6_lives_151 : decode cX6_lives 151 = .ok (.if_icmp .lt 24, 3) := dk_161 0 24 (dk_at dksX6_lives_6 12 rfl rfl)
theorem dX6_lives_154 : decode cX6_lives 154 = .ok (.aload_n 0, 1) := dk_42 (dk_at dksX6_lives_6 15 rfl rfl)
theorem dX6_lives_155 : decode cX6_lives 155 = .ok (.iload_n 3, 1) := dk_29 (dk_at dksX6_lives_6 16 rfl rfl)
theorem dX6_lives_156 : decode cX6_lives 156 = .ok (.invokevirtual 446, 3) := dk_182 1 190 (dk_at dksX6_lives_6 17 rfl rfl)
theorem dX6_lives_159 : decode cX6_lives 159 = .ok (.ifCond .ne 16, 3) := dk_154 0 16 (dk_at dksX6_lives_6 20 rfl rfl)
theorem dX6_lives_162 : decode cX6_lives 162 = .ok (.aload_n 0, 1) := dk_42 (dk_at dksX6_lives_6 23 rfl rfl)
theorem dX6_lives_163 : decode cX6_lives 163 = .ok (.getfield 7, 3) := dk_180 0 7 (dk_at dksX6_lives_7 0 rfl rfl)
theorem dX6_lives_166 : decode cX6_lives 166 = .ok (.iload_n 3, 1) := dk_29 (dk_at dksX6_lives_7 3 rfl rfl)
theorem dX6_lives_167 : decode cX6_lives 167 = .ok (.iconst 4, 1) := dk_7 (dk_at dksX6_lives_7 4 rfl rfl)
theorem dX6_lives_168 : decode cX6_lives 168 = .ok (.iadd, 1) := dk_96 (dk_at dksX6_lives_7 5 rfl rfl)
theorem dX6_lives_169 : decode cX6_lives 169 = .ok (.iaload, 1) := dk_46 (dk_at dksX6_lives_7 6 rfl rfl)
theorem dX6_lives_170 : decode cX6_lives 170 = .ok (.iconst 1, 1) := dk_4 (dk_at dksX6_lives_7 7 rfl rfl)
theorem dX6_lives_171 : decode cX6_lives 171 = .ok (.iadd, 1) := dk_96 (dk_at dksX6_lives_7 8 rfl rfl)
theorem dX6_lives_172 : decode cX6_lives 172 = .ok (.goto 6, 3) := dk_167 0 6 (dk_at dksX6_lives_7 9 rfl rfl)
theorem dX6_lives_175 : decode cX6_lives 175 = .ok (.iload_n 2, 1) := dk_28 (dk_at dksX6_lives_7 12 rfl rfl)
theorem dX6_lives_176 : decode cX6_lives 176 = .ok (.iconst 1, 1) := dk_4 (dk_at dksX6_lives_7 13 rfl rfl)
theorem dX6_lives_177 : decode cX6_lives 177 = .ok (.iadd, 1) := dk_96 (dk_at dksX6_lives_7 14 rfl rfl)
theorem dX6_lives_178 : decode cX6_lives 178 = .ok (.invokevirtual 449, 3) := dk_182 1 193 (dk_at dksX6_lives_7 15 rfl rfl)
theorem dX6_lives_181 : decode cX6_lives 181 = .ok (.istore_n 2, 1) := dk_61 (dk_at dksX6_lives_7 18 rfl rfl)
theorem dX6_lives_182 : decode cX6_lives 182 = .ok (.goto (-150), 3) := dk_167 255 106 (dk_at dksX6_lives_7 19 rfl rfl)
theorem dX6_lives_185 : decode cX6_lives 185 = .ok (.return_, 1) := dk_177 (dk_at dksX6_lives_7 22 rfl rfl)
abbrev cX6_does : ByteArray := prog_16_method_145_code
def yX6_does : MethodName := ⟨RX6, "does", "(I)Z"⟩
def dkwX6_does_5 : List UInt8 := [46, 4, 96, 79, 4, 172, 4, 172]
abbrev dktX6_does_5 : List UInt8 := dkwX6_does_5 ++ []
def dkwX6_does_4 : List UInt8 := [6, 96, 46, 182, 1, 153, 4, 172, 42, 182, 1, 133, 2, 160, 0, 5, 3, 172, 42, 180, 0, 59, 6, 92]
abbrev dktX6_does_4 : List UInt8 := dkwX6_does_4 ++ dktX6_does_5
def dkwX6_does_3 : List UInt8 := [172, 42, 28, 29, 42, 180, 0, 7, 27, 6, 96, 46, 182, 1, 101, 172, 42, 28, 29, 42, 180, 0, 7, 27]
abbrev dktX6_does_3 : List UInt8 := dkwX6_does_3 ++ dktX6_does_4
def dkwX6_does_2 : List UInt8 := [28, 2, 160, 0, 10, 42, 182, 1, 178, 167, 0, 8, 42, 28, 182, 1, 175, 172, 42, 28, 29, 182, 1, 181]
abbrev dktX6_does_2 : List UInt8 := dkwX6_does_2 ++ dktX6_does_3
def dkwX6_does_1 : List UInt8 := [170, 0, 0, 0, 0, 0, 0, 114, 0, 0, 0, 17, 0, 0, 0, 21, 0, 0, 0, 36, 0, 0, 0, 54, 0, 0, 0, 61, 0, 0, 0, 76, 0, 0, 0, 92]
abbrev dktX6_does_1 : List UInt8 := dkwX6_does_1 ++ dktX6_does_2
def dkwX6_does_0 : List UInt8 := [42, 180, 0, 7, 27, 4, 96, 46, 61, 42, 180, 0, 7, 27, 5, 96, 46, 62, 42, 180, 0, 7, 27, 46]
abbrev dktX6_does_0 : List UInt8 := dkwX6_does_0 ++ dktX6_does_1
theorem dksX6_does_0 : cX6_does.data.toList.drop 0 = dktX6_does_0 := by decide +kernel
theorem dksX6_does_1 : cX6_does.data.toList.drop 24 = dktX6_does_1 := dk_seg dksX6_does_0 24 rfl rfl
theorem dksX6_does_2 : cX6_does.data.toList.drop 60 = dktX6_does_2 := dk_seg dksX6_does_1 36 rfl rfl
theorem dksX6_does_3 : cX6_does.data.toList.drop 84 = dktX6_does_3 := dk_seg dksX6_does_2 24 rfl rfl
theorem dksX6_does_4 : cX6_does.data.toList.drop 108 = dktX6_does_4 := dk_seg dksX6_does_3 24 rfl rfl
theorem dksX6_does_5 : cX6_does.data.toList.drop 132 = dktX6_does_5 := dk_seg dksX6_does_4 24 rfl rfl
theorem dX6_does_0 : decode cX6_does 0 = .ok (.aload_n 0, 1) := dk_42 (dk_at dksX6_does_0 0 rfl rfl)
theorem dX6_does_1 : decode cX6_does 1 = .ok (.getfield 7, 3) := dk_180 0 7 (dk_at dksX6_does_0 1 rfl rfl)
theorem dX6_does_4 : decode cX6_does 4 = .ok (.iload_n 1, 1) := dk_27 (dk_at dksX6_does_0 4 rfl rfl)
theorem dX6_does_5 : decode cX6_does 5 = .ok (.iconst 1, 1) := dk_4 (dk_at dksX6_does_0 5 rfl rfl)
theorem dX6_does_6 : decode cX6_does 6 = .ok (.iadd, 1) := dk_96 (dk_at dksX6_does_0 6 rfl rfl)
theorem dX6_does_7 : decode cX6_does 7 = .ok (.iaload, 1) := dk_46 (dk_at dksX6_does_0 7 rfl rfl)
theorem dX6_does_8 : decode cX6_does 8 = .ok (.istore_n 2, 1) := dk_61 (dk_at dksX6_does_0 8 rfl rfl)
theorem dX6_does_9 : decode cX6_does 9 = .ok (.aload_n 0, 1) := dk_42 (dk_at dksX6_does_0 9 rfl rfl)
theorem dX6_does_10 : decode cX6_does 10 = .ok (.getfield 7, 3) := dk_180 0 7 (dk_at dksX6_does_0 10 rfl rfl)
theorem dX6_does_13 : decode cX6_does 13 = .ok (.iload_n 1, 1) := dk_27 (dk_at dksX6_does_0 13 rfl rfl)
theorem dX6_does_14 : decode cX6_does 14 = .ok (.iconst 2, 1) := dk_5 (dk_at dksX6_does_0 14 rfl rfl)
theorem dX6_does_15 : decode cX6_does 15 = .ok (.iadd, 1) := dk_96 (dk_at dksX6_does_0 15 rfl rfl)
theorem dX6_does_16 : decode cX6_does 16 = .ok (.iaload, 1) := dk_46 (dk_at dksX6_does_0 16 rfl rfl)
theorem dX6_does_17 : decode cX6_does 17 = .ok (.istore_n 3, 1) := dk_62 (dk_at dksX6_does_0 17 rfl rfl)
theorem dX6_does_18 : decode cX6_does 18 = .ok (.aload_n 0, 1) := dk_42 (dk_at dksX6_does_0 18 rfl rfl)
theorem dX6_does_19 : decode cX6_does 19 = .ok (.getfield 7, 3) := dk_180 0 7 (dk_at dksX6_does_0 19 rfl rfl)
theorem dX6_does_22 : decode cX6_does 22 = .ok (.iload_n 1, 1) := dk_27 (dk_at dksX6_does_0 22 rfl rfl)
theorem dX6_does_23 : decode cX6_does 23 = .ok (.iaload, 1) := dk_46 (dk_at dksX6_does_0 23 rfl rfl)
theorem dX6_does_24 : decode cX6_does 24 = .ok (.tableswitch 114 17 21 #[36, 54, 61, 76, 92], 36) := by decide +kernel
theorem dX6_does_60 : decode cX6_does 60 = .ok (.iload_n 2, 1) := dk_28 (dk_at dksX6_does_2 0 rfl rfl)
theorem dX6_does_61 : decode cX6_does 61 = .ok (.iconst (-1), 1) := dk_2 (dk_at dksX6_does_2 1 rfl rfl)
theorem dX6_does_62 : decode cX6_does 62 = .ok (.if_icmp .ne 10, 3) := dk_160 0 10 (dk_at dksX6_does_2 2 rfl rfl)
theorem dX6_does_65 : decode cX6_does 65 = .ok (.aload_n 0, 1) := dk_42 (dk_at dksX6_does_2 5 rfl rfl)
theorem dX6_does_66 : decode cX6_does 66 = .ok (.invokevirtual 434, 3) := dk_182 1 178 (dk_at dksX6_does_2 6 rfl rfl)
theorem dX6_does_69 : decode cX6_does 69 = .ok (.goto 8, 3) := dk_167 0 8 (dk_at dksX6_does_2 9 rfl rfl)
theorem dX6_does_72 : decode cX6_does 72 = .ok (.aload_n 0, 1) := dk_42 (dk_at dksX6_does_2 12 rfl rfl)
theorem dX6_does_73 : decode cX6_does 73 = .ok (.iload_n 2, 1) := dk_28 (dk_at dksX6_does_2 13 rfl rfl)
theorem dX6_does_74 : decode cX6_does 74 = .ok (.invokevirtual 431, 3) := dk_182 1 175 (dk_at dksX6_does_2 14 rfl rfl)
theorem dX6_does_77 : decode cX6_does 77 = .ok (.ireturn, 1) := dk_172 (dk_at dksX6_does_2 17 rfl rfl)
theorem dX6_does_78 : decode cX6_does 78 = .ok (.aload_n 0, 1) := dk_42 (dk_at dksX6_does_2 18 rfl rfl)
theorem dX6_does_79 : decode cX6_does 79 = .ok (.iload_n 2, 1) := dk_28 (dk_at dksX6_does_2 19 rfl rfl)
theorem dX6_does_80 : decode cX6_does 80 = .ok (.iload_n 3, 1) := dk_29 (dk_at dksX6_does_2 20 rfl rfl)
theorem dX6_does_81 : decode cX6_does 81 = .ok (.invokevirtual 437, 3) := dk_182 1 181 (dk_at dksX6_does_2 21 rfl rfl)
theorem dX6_does_84 : decode cX6_does 84 = .ok (.ireturn, 1) := dk_172 (dk_at dksX6_does_3 0 rfl rfl)
theorem dX6_does_85 : decode cX6_does 85 = .ok (.aload_n 0, 1) := dk_42 (dk_at dksX6_does_3 1 rfl rfl)
theorem dX6_does_86 : decode cX6_does 86 = .ok (.iload_n 2, 1) := dk_28 (dk_at dksX6_does_3 2 rfl rfl)
theorem dX6_does_87 : decode cX6_does 87 = .ok (.iload_n 3, 1) := dk_29 (dk_at dksX6_does_3 3 rfl rfl)
theorem dX6_does_88 : decode cX6_does 88 = .ok (.aload_n 0, 1) := dk_42 (dk_at dksX6_does_3 4 rfl rfl)
theorem dX6_does_89 : decode cX6_does 89 = .ok (.getfield 7, 3) := dk_180 0 7 (dk_at dksX6_does_3 5 rfl rfl)
theorem dX6_does_92 : decode cX6_does 92 = .ok (.iload_n 1, 1) := dk_27 (dk_at dksX6_does_3 8 rfl rfl)
theorem dX6_does_93 : decode cX6_does 93 = .ok (.iconst 3, 1) := dk_6 (dk_at dksX6_does_3 9 rfl rfl)
theorem dX6_does_94 : decode cX6_does 94 = .ok (.iadd, 1) := dk_96 (dk_at dksX6_does_3 10 rfl rfl)
theorem dX6_does_95 : decode cX6_does 95 = .ok (.iaload, 1) := dk_46 (dk_at dksX6_does_3 11 rfl rfl)
theorem dX6_does_96 : decode cX6_does 96 = .ok (.invokevirtual 357, 3) := dk_182 1 101 (dk_at dksX6_does_3 12 rfl rfl)
theorem dX6_does_99 : decode cX6_does 99 = .ok (.ireturn, 1) := dk_172 (dk_at dksX6_does_3 15 rfl rfl)
theorem dX6_does_100 : decode cX6_does 100 = .ok (.aload_n 0, 1) := dk_42 (dk_at dksX6_does_3 16 rfl rfl)
theorem dX6_does_101 : decode cX6_does 101 = .ok (.iload_n 2, 1) := dk_28 (dk_at dksX6_does_3 17 rfl rfl)
theorem dX6_does_102 : decode cX6_does 102 = .ok (.iload_n 3, 1) := dk_29 (dk_at dksX6_does_3 18 rfl rfl)
theorem dX6_does_103 : decode cX6_does 103 = .ok (.aload_n 0, 1) := dk_42 (dk_at dksX6_does_3 19 rfl rfl)
theorem dX6_does_104 : decode cX6_does 104 = .ok (.getfield 7, 3) := dk_180 0 7 (dk_at dksX6_does_3 20 rfl rfl)
theorem dX6_does_107 : decode cX6_does 107 = .ok (.iload_n 1, 1) := dk_27 (dk_at dksX6_does_3 23 rfl rfl)
theorem dX6_does_108 : decode cX6_does 108 = .ok (.iconst 3, 1) := dk_6 (dk_at dksX6_does_4 0 rfl rfl)
theorem dX6_does_109 : decode cX6_does 109 = .ok (.iadd, 1) := dk_96 (dk_at dksX6_does_4 1 rfl rfl)
theorem dX6_does_110 : decode cX6_does 110 = .ok (.iaload, 1) := dk_46 (dk_at dksX6_does_4 2 rfl rfl)
theorem dX6_does_111 : decode cX6_does 111 = .ok (.invokevirtual 409, 3) := dk_182 1 153 (dk_at dksX6_does_4 3 rfl rfl)
theorem dX6_does_114 : decode cX6_does 114 = .ok (.iconst 1, 1) := dk_4 (dk_at dksX6_does_4 6 rfl rfl)
theorem dX6_does_115 : decode cX6_does 115 = .ok (.ireturn, 1) := dk_172 (dk_at dksX6_does_4 7 rfl rfl)
theorem dX6_does_116 : decode cX6_does 116 = .ok (.aload_n 0, 1) := dk_42 (dk_at dksX6_does_4 8 rfl rfl)
theorem dX6_does_117 : decode cX6_does 117 = .ok (.invokevirtual 389, 3) := dk_182 1 133 (dk_at dksX6_does_4 9 rfl rfl)
theorem dX6_does_120 : decode cX6_does 120 = .ok (.iconst (-1), 1) := dk_2 (dk_at dksX6_does_4 12 rfl rfl)
theorem dX6_does_121 : decode cX6_does 121 = .ok (.if_icmp .ne 5, 3) := dk_160 0 5 (dk_at dksX6_does_4 13 rfl rfl)
theorem dX6_does_124 : decode cX6_does 124 = .ok (.iconst 0, 1) := dk_3 (dk_at dksX6_does_4 16 rfl rfl)
theorem dX6_does_125 : decode cX6_does 125 = .ok (.ireturn, 1) := dk_172 (dk_at dksX6_does_4 17 rfl rfl)
theorem dX6_does_126 : decode cX6_does 126 = .ok (.aload_n 0, 1) := dk_42 (dk_at dksX6_does_4 18 rfl rfl)
theorem dX6_does_127 : decode cX6_does 127 = .ok (.getfield 59, 3) := dk_180 0 59 (dk_at dksX6_does_4 19 rfl rfl)
theorem dX6_does_130 : decode cX6_does 130 = .ok (.iconst 3, 1) := dk_6 (dk_at dksX6_does_4 22 rfl rfl)
theorem dX6_does_131 : decode cX6_does 131 = .ok (.dup2, 1) := dk_92 (dk_at dksX6_does_4 23 rfl rfl)
theorem dX6_does_132 : decode cX6_does 132 = .ok (.iaload, 1) := dk_46 (dk_at dksX6_does_5 0 rfl rfl)
theorem dX6_does_133 : decode cX6_does 133 = .ok (.iconst 1, 1) := dk_4 (dk_at dksX6_does_5 1 rfl rfl)
theorem dX6_does_134 : decode cX6_does 134 = .ok (.iadd, 1) := dk_96 (dk_at dksX6_does_5 2 rfl rfl)
theorem dX6_does_135 : decode cX6_does 135 = .ok (.iastore, 1) := dk_79 (dk_at dksX6_does_5 3 rfl rfl)
theorem dX6_does_136 : decode cX6_does 136 = .ok (.iconst 1, 1) := dk_4 (dk_at dksX6_does_5 4 rfl rfl)
theorem dX6_does_137 : decode cX6_does 137 = .ok (.ireturn, 1) := dk_172 (dk_at dksX6_does_5 5 rfl rfl)
theorem dX6_does_138 : decode cX6_does 138 = .ok (.iconst 1, 1) := dk_4 (dk_at dksX6_does_5 6 rfl rfl)
theorem dX6_does_139 : decode cX6_does 139 = .ok (.ireturn, 1) := dk_172 (dk_at dksX6_does_5 7 rfl rfl)
abbrev cX6_reaches : ByteArray := prog_16_method_143_code
def yX6_reaches : MethodName := ⟨RX6, "reaches", "()Z"⟩
def dkwX6_reaches_2 : List UInt8 := [96, 46, 100, 61, 132, 3, 1, 167, 255, 224, 42, 29, 182, 1, 175, 172]
abbrev dktX6_reaches_2 : List UInt8 := dkwX6_reaches_2 ++ []
def dkwX6_reaches_1 : List UInt8 := [42, 180, 0, 7, 29, 184, 1, 11, 4, 96, 46, 161, 0, 23, 28, 42, 180, 0, 7, 29, 184, 1, 11, 4]
abbrev dktX6_reaches_1 : List UInt8 := dkwX6_reaches_1 ++ dktX6_reaches_2
def dkwX6_reaches_0 : List UInt8 := [42, 42, 182, 0, 251, 182, 1, 95, 60, 27, 154, 0, 5, 3, 172, 42, 27, 182, 1, 172, 61, 3, 62, 28]
abbrev dktX6_reaches_0 : List UInt8 := dkwX6_reaches_0 ++ dktX6_reaches_1
theorem dksX6_reaches_0 : cX6_reaches.data.toList.drop 0 = dktX6_reaches_0 := by decide +kernel
theorem dksX6_reaches_1 : cX6_reaches.data.toList.drop 24 = dktX6_reaches_1 := dk_seg dksX6_reaches_0 24 rfl rfl
theorem dksX6_reaches_2 : cX6_reaches.data.toList.drop 48 = dktX6_reaches_2 := dk_seg dksX6_reaches_1 24 rfl rfl
theorem dX6_reaches_0 : decode cX6_reaches 0 = .ok (.aload_n 0, 1) := dk_42 (dk_at dksX6_reaches_0 0 rfl rfl)
theorem dX6_reaches_1 : decode cX6_reaches 1 = .ok (.aload_n 0, 1) := dk_42 (dk_at dksX6_reaches_0 1 rfl rfl)
theorem dX6_reaches_2 : decode cX6_reaches 2 = .ok (.invokevirtual 251, 3) := dk_182 0 251 (dk_at dksX6_reaches_0 2 rfl rfl)
theorem dX6_reaches_5 : decode cX6_reaches 5 = .ok (.invokevirtual 351, 3) := dk_182 1 95 (dk_at dksX6_reaches_0 5 rfl rfl)
theorem dX6_reaches_8 : decode cX6_reaches 8 = .ok (.istore_n 1, 1) := dk_60 (dk_at dksX6_reaches_0 8 rfl rfl)
theorem dX6_reaches_9 : decode cX6_reaches 9 = .ok (.iload_n 1, 1) := dk_27 (dk_at dksX6_reaches_0 9 rfl rfl)
theorem dX6_reaches_10 : decode cX6_reaches 10 = .ok (.ifCond .ne 5, 3) := dk_154 0 5 (dk_at dksX6_reaches_0 10 rfl rfl)
theorem dX6_reaches_13 : decode cX6_reaches 13 = .ok (.iconst 0, 1) := dk_3 (dk_at dksX6_reaches_0 13 rfl rfl)
theorem dX6_reaches_14 : decode cX6_reaches 14 = .ok (.ireturn, 1) := dk_172 (dk_at dksX6_reaches_0 14 rfl rfl)
theorem dX6_reaches_15 : decode cX6_reaches 15 = .ok (.aload_n 0, 1) := dk_42 (dk_at dksX6_reaches_0 15 rfl rfl)
theorem dX6_reaches_16 : decode cX6_reaches 16 = .ok (.iload_n 1, 1) := dk_27 (dk_at dksX6_reaches_0 16 rfl rfl)
theorem dX6_reaches_17 : decode cX6_reaches 17 = .ok (.invokevirtual 428, 3) := dk_182 1 172 (dk_at dksX6_reaches_0 17 rfl rfl)
theorem dX6_reaches_20 : decode cX6_reaches 20 = .ok (.istore_n 2, 1) := dk_61 (dk_at dksX6_reaches_0 20 rfl rfl)
theorem dX6_reaches_21 : decode cX6_reaches 21 = .ok (.iconst 0, 1) := dk_3 (dk_at dksX6_reaches_0 21 rfl rfl)
theorem dX6_reaches_22 : decode cX6_reaches 22 = .ok (.istore_n 3, 1) := dk_62 (dk_at dksX6_reaches_0 22 rfl rfl)
theorem dX6_reaches_23 : decode cX6_reaches 23 = .ok (.iload_n 2, 1) := dk_28 (dk_at dksX6_reaches_0 23 rfl rfl)
theorem dX6_reaches_24 : decode cX6_reaches 24 = .ok (.aload_n 0, 1) := dk_42 (dk_at dksX6_reaches_1 0 rfl rfl)
theorem dX6_reaches_25 : decode cX6_reaches 25 = .ok (.getfield 7, 3) := dk_180 0 7 (dk_at dksX6_reaches_1 1 rfl rfl)
theorem dX6_reaches_28 : decode cX6_reaches 28 = .ok (.iload_n 3, 1) := dk_29 (dk_at dksX6_reaches_1 4 rfl rfl)
theorem dX6_reaches_29 : decode cX6_reaches 29 = .ok (.invokestatic 267, 3) := dk_184 1 11 (dk_at dksX6_reaches_1 5 rfl rfl)
theorem dX6_reaches_32 : decode cX6_reaches 32 = .ok (.iconst 1, 1) := dk_4 (dk_at dksX6_reaches_1 8 rfl rfl)
theorem dX6_reaches_33 : decode cX6_reaches 33 = .ok (.iadd, 1) := dk_96 (dk_at dksX6_reaches_1 9 rfl rfl)
theorem dX6_reaches_34 : decode cX6_reaches 34 = .ok (.iaload, 1) := dk_46 (dk_at dksX6_reaches_1 10 rfl rfl)
theorem dX6_reaches_35 : decode cX6_reaches 35 = .ok (.if_icmp .lt 23, 3) := dk_161 0 23 (dk_at dksX6_reaches_1 11 rfl rfl)
theorem dX6_reaches_38 : decode cX6_reaches 38 = .ok (.iload_n 2, 1) := dk_28 (dk_at dksX6_reaches_1 14 rfl rfl)
theorem dX6_reaches_39 : decode cX6_reaches 39 = .ok (.aload_n 0, 1) := dk_42 (dk_at dksX6_reaches_1 15 rfl rfl)
theorem dX6_reaches_40 : decode cX6_reaches 40 = .ok (.getfield 7, 3) := dk_180 0 7 (dk_at dksX6_reaches_1 16 rfl rfl)
theorem dX6_reaches_43 : decode cX6_reaches 43 = .ok (.iload_n 3, 1) := dk_29 (dk_at dksX6_reaches_1 19 rfl rfl)
theorem dX6_reaches_44 : decode cX6_reaches 44 = .ok (.invokestatic 267, 3) := dk_184 1 11 (dk_at dksX6_reaches_1 20 rfl rfl)
theorem dX6_reaches_47 : decode cX6_reaches 47 = .ok (.iconst 1, 1) := dk_4 (dk_at dksX6_reaches_1 23 rfl rfl)
theorem dX6_reaches_48 : decode cX6_reaches 48 = .ok (.iadd, 1) := dk_96 (dk_at dksX6_reaches_2 0 rfl rfl)
theorem dX6_reaches_49 : decode cX6_reaches 49 = .ok (.iaload, 1) := dk_46 (dk_at dksX6_reaches_2 1 rfl rfl)
theorem dX6_reaches_50 : decode cX6_reaches 50 = .ok (.isub, 1) := dk_100 (dk_at dksX6_reaches_2 2 rfl rfl)
theorem dX6_reaches_51 : decode cX6_reaches 51 = .ok (.istore_n 2, 1) := dk_61 (dk_at dksX6_reaches_2 3 rfl rfl)
theorem dX6_reaches_52 : decode cX6_reaches 52 = .ok (.iinc 3 1, 3) := dk_132 3 1 (dk_at dksX6_reaches_2 4 rfl rfl)
theorem dX6_reaches_55 : decode cX6_reaches 55 = .ok (.goto (-32), 3) := dk_167 255 224 (dk_at dksX6_reaches_2 7 rfl rfl)
theorem dX6_reaches_58 : decode cX6_reaches 58 = .ok (.aload_n 0, 1) := dk_42 (dk_at dksX6_reaches_2 10 rfl rfl)
theorem dX6_reaches_59 : decode cX6_reaches 59 = .ok (.iload_n 3, 1) := dk_29 (dk_at dksX6_reaches_2 11 rfl rfl)
theorem dX6_reaches_60 : decode cX6_reaches 60 = .ok (.invokevirtual 431, 3) := dk_182 1 175 (dk_at dksX6_reaches_2 12 rfl rfl)
theorem dX6_reaches_63 : decode cX6_reaches 63 = .ok (.ireturn, 1) := dk_172 (dk_at dksX6_reaches_2 15 rfl rfl)
abbrev cX6_draw : ByteArray := prog_16_method_141_code
def yX6_draw : MethodName := ⟨RX6, "draw", "(I)I"⟩
def dkwX6_draw_1 : List UInt8 := [16, 8, 108, 27, 112, 172]
abbrev dktX6_draw_1 : List UInt8 := dkwX6_draw_1 ++ []
def dkwX6_draw_0 : List UInt8 := [42, 42, 180, 1, 168, 17, 11, 101, 104, 17, 43, 111, 96, 19, 1, 171, 112, 181, 1, 168, 42, 180, 1, 168]
abbrev dktX6_draw_0 : List UInt8 := dkwX6_draw_0 ++ dktX6_draw_1
theorem dksX6_draw_0 : cX6_draw.data.toList.drop 0 = dktX6_draw_0 := by decide +kernel
theorem dksX6_draw_1 : cX6_draw.data.toList.drop 24 = dktX6_draw_1 := dk_seg dksX6_draw_0 24 rfl rfl
theorem dX6_draw_0 : decode cX6_draw 0 = .ok (.aload_n 0, 1) := dk_42 (dk_at dksX6_draw_0 0 rfl rfl)
theorem dX6_draw_1 : decode cX6_draw 1 = .ok (.aload_n 0, 1) := dk_42 (dk_at dksX6_draw_0 1 rfl rfl)
theorem dX6_draw_2 : decode cX6_draw 2 = .ok (.getfield 424, 3) := dk_180 1 168 (dk_at dksX6_draw_0 2 rfl rfl)
theorem dX6_draw_5 : decode cX6_draw 5 = .ok (.sipush 2917, 3) := dk_17 11 101 (dk_at dksX6_draw_0 5 rfl rfl)
theorem dX6_draw_8 : decode cX6_draw 8 = .ok (.imul, 1) := dk_104 (dk_at dksX6_draw_0 8 rfl rfl)
theorem dX6_draw_9 : decode cX6_draw 9 = .ok (.sipush 11119, 3) := dk_17 43 111 (dk_at dksX6_draw_0 9 rfl rfl)
theorem dX6_draw_12 : decode cX6_draw 12 = .ok (.iadd, 1) := dk_96 (dk_at dksX6_draw_0 12 rfl rfl)
theorem dX6_draw_13 : decode cX6_draw 13 = .ok (.ldc_w 427, 3) := dk_19 1 171 (dk_at dksX6_draw_0 13 rfl rfl)
theorem dX6_draw_16 : decode cX6_draw 16 = .ok (.irem, 1) := dk_112 (dk_at dksX6_draw_0 16 rfl rfl)
theorem dX6_draw_17 : decode cX6_draw 17 = .ok (.putfield 424, 3) := dk_181 1 168 (dk_at dksX6_draw_0 17 rfl rfl)
theorem dX6_draw_20 : decode cX6_draw 20 = .ok (.aload_n 0, 1) := dk_42 (dk_at dksX6_draw_0 20 rfl rfl)
theorem dX6_draw_21 : decode cX6_draw 21 = .ok (.getfield 424, 3) := dk_180 1 168 (dk_at dksX6_draw_0 21 rfl rfl)
theorem dX6_draw_24 : decode cX6_draw 24 = .ok (.bipush 8, 2) := dk_16 8 (dk_at dksX6_draw_1 0 rfl rfl)
theorem dX6_draw_26 : decode cX6_draw 26 = .ok (.idiv, 1) := dk_108 (dk_at dksX6_draw_1 2 rfl rfl)
theorem dX6_draw_27 : decode cX6_draw 27 = .ok (.iload_n 1, 1) := dk_27 (dk_at dksX6_draw_1 3 rfl rfl)
theorem dX6_draw_28 : decode cX6_draw 28 = .ok (.irem, 1) := dk_112 (dk_at dksX6_draw_1 4 rfl rfl)
theorem dX6_draw_29 : decode cX6_draw 29 = .ok (.ireturn, 1) := dk_172 (dk_at dksX6_draw_1 5 rfl rfl)
abbrev cX6_dines : ByteArray := prog_16_method_142_code
def yX6_dines : MethodName := ⟨RX6, "dines", "(I)Z"⟩
def dkwX6_dines_0 : List UInt8 := [42, 27, 182, 1, 60, 154, 0, 5, 3, 172, 42, 180, 0, 59, 4, 92, 46, 4, 96, 79, 4, 172]
abbrev dktX6_dines_0 : List UInt8 := dkwX6_dines_0 ++ []
theorem dksX6_dines_0 : cX6_dines.data.toList.drop 0 = dktX6_dines_0 := by decide +kernel
theorem dX6_dines_0 : decode cX6_dines 0 = .ok (.aload_n 0, 1) := dk_42 (dk_at dksX6_dines_0 0 rfl rfl)
theorem dX6_dines_1 : decode cX6_dines 1 = .ok (.iload_n 1, 1) := dk_27 (dk_at dksX6_dines_0 1 rfl rfl)
theorem dX6_dines_2 : decode cX6_dines 2 = .ok (.invokevirtual 316, 3) := dk_182 1 60 (dk_at dksX6_dines_0 2 rfl rfl)
theorem dX6_dines_5 : decode cX6_dines 5 = .ok (.ifCond .ne 5, 3) := dk_154 0 5 (dk_at dksX6_dines_0 5 rfl rfl)
theorem dX6_dines_8 : decode cX6_dines 8 = .ok (.iconst 0, 1) := dk_3 (dk_at dksX6_dines_0 8 rfl rfl)
theorem dX6_dines_9 : decode cX6_dines 9 = .ok (.ireturn, 1) := dk_172 (dk_at dksX6_dines_0 9 rfl rfl)
theorem dX6_dines_10 : decode cX6_dines 10 = .ok (.aload_n 0, 1) := dk_42 (dk_at dksX6_dines_0 10 rfl rfl)
theorem dX6_dines_11 : decode cX6_dines 11 = .ok (.getfield 59, 3) := dk_180 0 59 (dk_at dksX6_dines_0 11 rfl rfl)
theorem dX6_dines_14 : decode cX6_dines 14 = .ok (.iconst 1, 1) := dk_4 (dk_at dksX6_dines_0 14 rfl rfl)
theorem dX6_dines_15 : decode cX6_dines 15 = .ok (.dup2, 1) := dk_92 (dk_at dksX6_dines_0 15 rfl rfl)
theorem dX6_dines_16 : decode cX6_dines 16 = .ok (.iaload, 1) := dk_46 (dk_at dksX6_dines_0 16 rfl rfl)
theorem dX6_dines_17 : decode cX6_dines 17 = .ok (.iconst 1, 1) := dk_4 (dk_at dksX6_dines_0 17 rfl rfl)
theorem dX6_dines_18 : decode cX6_dines 18 = .ok (.iadd, 1) := dk_96 (dk_at dksX6_dines_0 18 rfl rfl)
theorem dX6_dines_19 : decode cX6_dines 19 = .ok (.iastore, 1) := dk_79 (dk_at dksX6_dines_0 19 rfl rfl)
theorem dX6_dines_20 : decode cX6_dines 20 = .ok (.iconst 1, 1) := dk_4 (dk_at dksX6_dines_0 20 rfl rfl)
theorem dX6_dines_21 : decode cX6_dines 21 = .ok (.ireturn, 1) := dk_172 (dk_at dksX6_dines_0 21 rfl rfl)
abbrev cX6_duels : ByteArray := prog_16_method_144_code
def yX6_duels : MethodName := ⟨RX6, "duels", "(II)Z"⟩
def dkwX6_duels_3 : List UInt8 := [172]
abbrev dktX6_duels_3 : List UInt8 := dkwX6_duels_3 ++ []
def dkwX6_duels_2 : List UInt8 := [167, 0, 9, 132, 3, 1, 167, 255, 206, 42, 29, 5, 112, 154, 0, 7, 28, 167, 0, 4, 27, 182, 1, 175]
abbrev dktX6_duels_2 : List UInt8 := dkwX6_duels_2 ++ dktX6_duels_3
def dkwX6_duels_1 : List UInt8 := [96, 79, 21, 4, 42, 29, 5, 112, 154, 0, 7, 27, 167, 0, 4, 28, 182, 1, 72, 161, 0, 6]
abbrev dktX6_duels_1 : List UInt8 := dkwX6_duels_1 ++ dktX6_duels_2
def dkwX6_duels_0 : List UInt8 := [3, 62, 29, 16, 20, 162, 0, 50, 42, 16, 16, 182, 1, 172, 54, 4, 42, 180, 0, 59, 5, 92, 46, 4]
abbrev dktX6_duels_0 : List UInt8 := dkwX6_duels_0 ++ dktX6_duels_1
theorem dksX6_duels_0 : cX6_duels.data.toList.drop 0 = dktX6_duels_0 := by decide +kernel
theorem dksX6_duels_1 : cX6_duels.data.toList.drop 24 = dktX6_duels_1 := dk_seg dksX6_duels_0 24 rfl rfl
theorem dksX6_duels_2 : cX6_duels.data.toList.drop 46 = dktX6_duels_2 := dk_seg dksX6_duels_1 22 rfl rfl
theorem dksX6_duels_3 : cX6_duels.data.toList.drop 70 = dktX6_duels_3 := dk_seg dksX6_duels_2 24 rfl rfl
theorem dX6_duels_0 : decode cX6_duels 0 = .ok (.iconst 0, 1) := dk_3 (dk_at dksX6_duels_0 0 rfl rfl)
theorem dX6_duels_1 : decode cX6_duels 1 = .ok (.istore_n 3, 1) := dk_62 (dk_at dksX6_duels_0 1 rfl rfl)
theorem dX6_duels_2 : decode cX6_duels 2 = .ok (.iload_n 3, 1) := dk_29 (dk_at dksX6_duels_0 2 rfl rfl)
theorem dX6_duels_3 : decode cX6_duels 3 = .ok (.bipush 20, 2) := dk_16 20 (dk_at dksX6_duels_0 3 rfl rfl)
theorem dX6_duels_5 : decode cX6_duels 5 = .ok (.if_icmp .ge 50, 3) := dk_162 0 50 (dk_at dksX6_duels_0 5 rfl rfl)
theorem dX6_duels_8 : decode cX6_duels 8 = .ok (.aload_n 0, 1) := dk_42 (dk_at dksX6_duels_0 8 rfl rfl)
theorem dX6_duels_9 : decode cX6_duels 9 = .ok (.bipush 16, 2) := dk_16 16 (dk_at dksX6_duels_0 9 rfl rfl)
theorem dX6_duels_11 : decode cX6_duels 11 = .ok (.invokevirtual 428, 3) := dk_182 1 172 (dk_at dksX6_duels_0 11 rfl rfl)
theorem dX6_duels_14 : decode cX6_duels 14 = .ok (.istore 4, 2) := dk_54 4 (dk_at dksX6_duels_0 14 rfl rfl)
theorem dX6_duels_16 : decode cX6_duels 16 = .ok (.aload_n 0, 1) := dk_42 (dk_at dksX6_duels_0 16 rfl rfl)
theorem dX6_duels_17 : decode cX6_duels 17 = .ok (.getfield 59, 3) := dk_180 0 59 (dk_at dksX6_duels_0 17 rfl rfl)
theorem dX6_duels_20 : decode cX6_duels 20 = .ok (.iconst 2, 1) := dk_5 (dk_at dksX6_duels_0 20 rfl rfl)
theorem dX6_duels_21 : decode cX6_duels 21 = .ok (.dup2, 1) := dk_92 (dk_at dksX6_duels_0 21 rfl rfl)
theorem dX6_duels_22 : decode cX6_duels 22 = .ok (.iaload, 1) := dk_46 (dk_at dksX6_duels_0 22 rfl rfl)
theorem dX6_duels_23 : decode cX6_duels 23 = .ok (.iconst 1, 1) := dk_4 (dk_at dksX6_duels_0 23 rfl rfl)
theorem dX6_duels_24 : decode cX6_duels 24 = .ok (.iadd, 1) := dk_96 (dk_at dksX6_duels_1 0 rfl rfl)
theorem dX6_duels_25 : decode cX6_duels 25 = .ok (.iastore, 1) := dk_79 (dk_at dksX6_duels_1 1 rfl rfl)
theorem dX6_duels_26 : decode cX6_duels 26 = .ok (.iload 4, 2) := dk_21 4 (dk_at dksX6_duels_1 2 rfl rfl)
theorem dX6_duels_28 : decode cX6_duels 28 = .ok (.aload_n 0, 1) := dk_42 (dk_at dksX6_duels_1 4 rfl rfl)
theorem dX6_duels_29 : decode cX6_duels 29 = .ok (.iload_n 3, 1) := dk_29 (dk_at dksX6_duels_1 5 rfl rfl)
theorem dX6_duels_30 : decode cX6_duels 30 = .ok (.iconst 2, 1) := dk_5 (dk_at dksX6_duels_1 6 rfl rfl)
theorem dX6_duels_31 : decode cX6_duels 31 = .ok (.irem, 1) := dk_112 (dk_at dksX6_duels_1 7 rfl rfl)
theorem dX6_duels_32 : decode cX6_duels 32 = .ok (.ifCond .ne 7, 3) := dk_154 0 7 (dk_at dksX6_duels_1 8 rfl rfl)
theorem dX6_duels_35 : decode cX6_duels 35 = .ok (.iload_n 1, 1) := dk_27 (dk_at dksX6_duels_1 11 rfl rfl)
theorem dX6_duels_36 : decode cX6_duels 36 = .ok (.goto 4, 3) := dk_167 0 4 (dk_at dksX6_duels_1 12 rfl rfl)
theorem dX6_duels_39 : decode cX6_duels 39 = .ok (.iload_n 2, 1) := dk_28 (dk_at dksX6_duels_1 15 rfl rfl)
theorem dX6_duels_40 : decode cX6_duels 40 = .ok (.invokevirtual 328, 3) := dk_182 1 72 (dk_at dksX6_duels_1 16 rfl rfl)
theorem dX6_duels_43 : decode cX6_duels 43 = .ok (.if_icmp .lt 6, 3) := dk_161 0 6 (dk_at dksX6_duels_1 19 rfl rfl)
theorem dX6_duels_46 : decode cX6_duels 46 = .ok (.goto 9, 3) := dk_167 0 9 (dk_at dksX6_duels_2 0 rfl rfl)
theorem dX6_duels_49 : decode cX6_duels 49 = .ok (.iinc 3 1, 3) := dk_132 3 1 (dk_at dksX6_duels_2 3 rfl rfl)
theorem dX6_duels_52 : decode cX6_duels 52 = .ok (.goto (-50), 3) := dk_167 255 206 (dk_at dksX6_duels_2 6 rfl rfl)
theorem dX6_duels_55 : decode cX6_duels 55 = .ok (.aload_n 0, 1) := dk_42 (dk_at dksX6_duels_2 9 rfl rfl)
theorem dX6_duels_56 : decode cX6_duels 56 = .ok (.iload_n 3, 1) := dk_29 (dk_at dksX6_duels_2 10 rfl rfl)
theorem dX6_duels_57 : decode cX6_duels 57 = .ok (.iconst 2, 1) := dk_5 (dk_at dksX6_duels_2 11 rfl rfl)
theorem dX6_duels_58 : decode cX6_duels 58 = .ok (.irem, 1) := dk_112 (dk_at dksX6_duels_2 12 rfl rfl)
theorem dX6_duels_59 : decode cX6_duels 59 = .ok (.ifCond .ne 7, 3) := dk_154 0 7 (dk_at dksX6_duels_2 13 rfl rfl)
theorem dX6_duels_62 : decode cX6_duels 62 = .ok (.iload_n 2, 1) := dk_28 (dk_at dksX6_duels_2 16 rfl rfl)
theorem dX6_duels_63 : decode cX6_duels 63 = .ok (.goto 4, 3) := dk_167 0 4 (dk_at dksX6_duels_2 17 rfl rfl)
theorem dX6_duels_66 : decode cX6_duels 66 = .ok (.iload_n 1, 1) := dk_27 (dk_at dksX6_duels_2 20 rfl rfl)
theorem dX6_duels_67 : decode cX6_duels 67 = .ok (.invokevirtual 431, 3) := dk_182 1 175 (dk_at dksX6_duels_2 21 rfl rfl)
theorem dX6_duels_70 : decode cX6_duels 70 = .ok (.ireturn, 1) := dk_172 (dk_at dksX6_duels_3 0 rfl rfl)
abbrev cX6_holds : ByteArray := prog_16_method_146_code
def yX6_holds : MethodName := ⟨RX6, "holds", "(I)Z"⟩
def dkwX6_holds_7 : List UInt8 := [4, 167, 0, 4, 3, 172]
abbrev dktX6_holds_7 : List UInt8 := dkwX6_holds_7 ++ []
def dkwX6_holds_6 : List UInt8 := [164, 0, 7, 4, 167, 0, 25, 3, 167, 0, 21, 21, 4, 42, 180, 0, 7, 27, 6, 96, 46, 160, 0, 7]
abbrev dktX6_holds_6 : List UInt8 := dkwX6_holds_6 ++ dktX6_holds_7
def dkwX6_holds_5 : List UInt8 := [42, 180, 0, 7, 27, 8, 96, 46, 16, 62, 160, 0, 24, 21, 4, 42, 180, 0, 7, 27, 6, 96, 46]
abbrev dktX6_holds_5 : List UInt8 := dkwX6_holds_5 ++ dktX6_holds_6
def dkwX6_holds_4 : List UInt8 := [160, 0, 24, 21, 4, 42, 180, 0, 7, 27, 6, 96, 46, 162, 0, 7, 4, 167, 0, 59, 3, 167, 0, 55]
abbrev dktX6_holds_4 : List UInt8 := dkwX6_holds_4 ++ dktX6_holds_5
def dkwX6_holds_3 : List UInt8 := [42, 180, 0, 7, 27, 5, 96, 46, 184, 1, 56, 46, 54, 4, 42, 180, 0, 7, 27, 8, 96, 46, 16, 60]
abbrev dktX6_holds_3 : List UInt8 := dkwX6_holds_3 ++ dktX6_holds_4
def dkwX6_holds_2 : List UInt8 := [16, 28, 160, 0, 17, 42, 180, 0, 7, 29, 184, 1, 11, 8, 96, 46, 167, 0, 20, 42, 180, 0, 7, 29]
abbrev dktX6_holds_2 : List UInt8 := dkwX6_holds_2 ++ dktX6_holds_3
def dkwX6_holds_1 : List UInt8 := [160, 0, 23, 42, 42, 180, 0, 7, 7, 46, 182, 1, 69, 29, 160, 0, 7, 4, 167, 0, 4, 3, 172, 28]
abbrev dktX6_holds_1 : List UInt8 := dkwX6_holds_1 ++ dktX6_holds_2
def dkwX6_holds_0 : List UInt8 := [42, 180, 0, 7, 27, 46, 17, 9, 96, 100, 61, 42, 180, 0, 7, 27, 4, 96, 46, 62, 28, 16, 15]
abbrev dktX6_holds_0 : List UInt8 := dkwX6_holds_0 ++ dktX6_holds_1
theorem dksX6_holds_0 : cX6_holds.data.toList.drop 0 = dktX6_holds_0 := by decide +kernel
theorem dksX6_holds_1 : cX6_holds.data.toList.drop 23 = dktX6_holds_1 := dk_seg dksX6_holds_0 23 rfl rfl
theorem dksX6_holds_2 : cX6_holds.data.toList.drop 47 = dktX6_holds_2 := dk_seg dksX6_holds_1 24 rfl rfl
theorem dksX6_holds_3 : cX6_holds.data.toList.drop 71 = dktX6_holds_3 := dk_seg dksX6_holds_2 24 rfl rfl
theorem dksX6_holds_4 : cX6_holds.data.toList.drop 95 = dktX6_holds_4 := dk_seg dksX6_holds_3 24 rfl rfl
theorem dksX6_holds_5 : cX6_holds.data.toList.drop 119 = dktX6_holds_5 := dk_seg dksX6_holds_4 24 rfl rfl
theorem dksX6_holds_6 : cX6_holds.data.toList.drop 142 = dktX6_holds_6 := dk_seg dksX6_holds_5 23 rfl rfl
theorem dksX6_holds_7 : cX6_holds.data.toList.drop 166 = dktX6_holds_7 := dk_seg dksX6_holds_6 24 rfl rfl
theorem dX6_holds_0 : decode cX6_holds 0 = .ok (.aload_n 0, 1) := dk_42 (dk_at dksX6_holds_0 0 rfl rfl)
theorem dX6_holds_1 : decode cX6_holds 1 = .ok (.getfield 7, 3) := dk_180 0 7 (dk_at dksX6_holds_0 1 rfl rfl)
theorem dX6_holds_4 : decode cX6_holds 4 = .ok (.iload_n 1, 1) := dk_27 (dk_at dksX6_holds_0 4 rfl rfl)
theorem dX6_holds_5 : decode cX6_holds 5 = .ok (.iaload, 1) := dk_46 (dk_at dksX6_holds_0 5 rfl rfl)
theorem dX6_holds_6 : decode cX6_holds 6 = .ok (.sipush 2400, 3) := dk_17 9 96 (dk_at dksX6_holds_0 6 rfl rfl)
theorem dX6_holds_9 : decode cX6_holds 9 = .ok (.isub, 1) := dk_100 (dk_at dksX6_holds_0 9 rfl rfl)
theorem dX6_holds_10 : decode cX6_holds 10 = .ok (.istore_n 2, 1) := dk_61 (dk_at dksX6_holds_0 10 rfl rfl)
theorem dX6_holds_11 : decode cX6_holds 11 = .ok (.aload_n 0, 1) := dk_42 (dk_at dksX6_holds_0 11 rfl rfl)
theorem dX6_holds_12 : decode cX6_holds 12 = .ok (.getfield 7, 3) := dk_180 0 7 (dk_at dksX6_holds_0 12 rfl rfl)
theorem dX6_holds_15 : decode cX6_holds 15 = .ok (.iload_n 1, 1) := dk_27 (dk_at dksX6_holds_0 15 rfl rfl)
theorem dX6_holds_16 : decode cX6_holds 16 = .ok (.iconst 1, 1) := dk_4 (dk_at dksX6_holds_0 16 rfl rfl)
theorem dX6_holds_17 : decode cX6_holds 17 = .ok (.iadd, 1) := dk_96 (dk_at dksX6_holds_0 17 rfl rfl)
theorem dX6_holds_18 : decode cX6_holds 18 = .ok (.iaload, 1) := dk_46 (dk_at dksX6_holds_0 18 rfl rfl)
theorem dX6_holds_19 : decode cX6_holds 19 = .ok (.istore_n 3, 1) := dk_62 (dk_at dksX6_holds_0 19 rfl rfl)
theorem dX6_holds_20 : decode cX6_holds 20 = .ok (.iload_n 2, 1) := dk_28 (dk_at dksX6_holds_0 20 rfl rfl)
theorem dX6_holds_21 : decode cX6_holds 21 = .ok (.bipush 15, 2) := dk_16 15 (dk_at dksX6_holds_0 21 rfl rfl)
theorem dX6_holds_23 : decode cX6_holds 23 = .ok (.if_icmp .ne 23, 3) := dk_160 0 23 (dk_at dksX6_holds_1 0 rfl rfl)
theorem dX6_holds_26 : decode cX6_holds 26 = .ok (.aload_n 0, 1) := dk_42 (dk_at dksX6_holds_1 3 rfl rfl)
theorem dX6_holds_27 : decode cX6_holds 27 = .ok (.aload_n 0, 1) := dk_42 (dk_at dksX6_holds_1 4 rfl rfl)
theorem dX6_holds_28 : decode cX6_holds 28 = .ok (.getfield 7, 3) := dk_180 0 7 (dk_at dksX6_holds_1 5 rfl rfl)
theorem dX6_holds_31 : decode cX6_holds 31 = .ok (.iconst 4, 1) := dk_7 (dk_at dksX6_holds_1 8 rfl rfl)
theorem dX6_holds_32 : decode cX6_holds 32 = .ok (.iaload, 1) := dk_46 (dk_at dksX6_holds_1 9 rfl rfl)
theorem dX6_holds_33 : decode cX6_holds 33 = .ok (.invokevirtual 325, 3) := dk_182 1 69 (dk_at dksX6_holds_1 10 rfl rfl)
theorem dX6_holds_36 : decode cX6_holds 36 = .ok (.iload_n 3, 1) := dk_29 (dk_at dksX6_holds_1 13 rfl rfl)
theorem dX6_holds_37 : decode cX6_holds 37 = .ok (.if_icmp .ne 7, 3) := dk_160 0 7 (dk_at dksX6_holds_1 14 rfl rfl)
theorem dX6_holds_40 : decode cX6_holds 40 = .ok (.iconst 1, 1) := dk_4 (dk_at dksX6_holds_1 17 rfl rfl)
theorem dX6_holds_41 : decode cX6_holds 41 = .ok (.goto 4, 3) := dk_167 0 4 (dk_at dksX6_holds_1 18 rfl rfl)
theorem dX6_holds_44 : decode cX6_holds 44 = .ok (.iconst 0, 1) := dk_3 (dk_at dksX6_holds_1 21 rfl rfl)
theorem dX6_holds_45 : decode cX6_holds 45 = .ok (.ireturn, 1) := dk_172 (dk_at dksX6_holds_1 22 rfl rfl)
theorem dX6_holds_46 : decode cX6_holds 46 = .ok (.iload_n 2, 1) := dk_28 (dk_at dksX6_holds_1 23 rfl rfl)
theorem dX6_holds_47 : decode cX6_holds 47 = .ok (.bipush 28, 2) := dk_16 28 (dk_at dksX6_holds_2 0 rfl rfl)
theorem dX6_holds_49 : decode cX6_holds 49 = .ok (.if_icmp .ne 17, 3) := dk_160 0 17 (dk_at dksX6_holds_2 2 rfl rfl)
theorem dX6_holds_52 : decode cX6_holds 52 = .ok (.aload_n 0, 1) := dk_42 (dk_at dksX6_holds_2 5 rfl rfl)
theorem dX6_holds_53 : decode cX6_holds 53 = .ok (.getfield 7, 3) := dk_180 0 7 (dk_at dksX6_holds_2 6 rfl rfl)
theorem dX6_holds_56 : decode cX6_holds 56 = .ok (.iload_n 3, 1) := dk_29 (dk_at dksX6_holds_2 9 rfl rfl)
theorem dX6_holds_57 : decode cX6_holds 57 = .ok (.invokestatic 267, 3) := dk_184 1 11 (dk_at dksX6_holds_2 10 rfl rfl)
theorem dX6_holds_60 : decode cX6_holds 60 = .ok (.iconst 5, 1) := dk_8 (dk_at dksX6_holds_2 13 rfl rfl)
theorem dX6_holds_61 : decode cX6_holds 61 = .ok (.iadd, 1) := dk_96 (dk_at dksX6_holds_2 14 rfl rfl)
theorem dX6_holds_62 : decode cX6_holds 62 = .ok (.iaload, 1) := dk_46 (dk_at dksX6_holds_2 15 rfl rfl)
theorem dX6_holds_63 : decode cX6_holds 63 = .ok (.goto 20, 3) := dk_167 0 20 (dk_at dksX6_holds_2 16 rfl rfl)
theorem dX6_holds_66 : decode cX6_holds 66 = .ok (.aload_n 0, 1) := dk_42 (dk_at dksX6_holds_2 19 rfl rfl)
theorem dX6_holds_67 : decode cX6_holds 67 = .ok (.getfield 7, 3) := dk_180 0 7 (dk_at dksX6_holds_2 20 rfl rfl)
theorem dX6_holds_70 : decode cX6_holds 70 = .ok (.iload_n 3, 1) := dk_29 (dk_at dksX6_holds_2 23 rfl rfl)
theorem dX6_holds_71 : decode cX6_holds 71 = .ok (.aload_n 0, 1) := dk_42 (dk_at dksX6_holds_3 0 rfl rfl)
theorem dX6_holds_72 : decode cX6_holds 72 = .ok (.getfield 7, 3) := dk_180 0 7 (dk_at dksX6_holds_3 1 rfl rfl)
theorem dX6_holds_75 : decode cX6_holds 75 = .ok (.iload_n 1, 1) := dk_27 (dk_at dksX6_holds_3 4 rfl rfl)
theorem dX6_holds_76 : decode cX6_holds 76 = .ok (.iconst 2, 1) := dk_5 (dk_at dksX6_holds_3 5 rfl rfl)
theorem dX6_holds_77 : decode cX6_holds 77 = .ok (.iadd, 1) := dk_96 (dk_at dksX6_holds_3 6 rfl rfl)
theorem dX6_holds_78 : decode cX6_holds 78 = .ok (.iaload, 1) := dk_46 (dk_at dksX6_holds_3 7 rfl rfl)
theorem dX6_holds_79 : decode cX6_holds 79 = .ok (.invokestatic 312, 3) := dk_184 1 56 (dk_at dksX6_holds_3 8 rfl rfl)
theorem dX6_holds_82 : decode cX6_holds 82 = .ok (.iaload, 1) := dk_46 (dk_at dksX6_holds_3 11 rfl rfl)
theorem dX6_holds_83 : decode cX6_holds 83 = .ok (.istore 4, 2) := dk_54 4 (dk_at dksX6_holds_3 12 rfl rfl)
theorem dX6_holds_85 : decode cX6_holds 85 = .ok (.aload_n 0, 1) := dk_42 (dk_at dksX6_holds_3 14 rfl rfl)
theorem dX6_holds_86 : decode cX6_holds 86 = .ok (.getfield 7, 3) := dk_180 0 7 (dk_at dksX6_holds_3 15 rfl rfl)
theorem dX6_holds_89 : decode cX6_holds 89 = .ok (.iload_n 1, 1) := dk_27 (dk_at dksX6_holds_3 18 rfl rfl)
theorem dX6_holds_90 : decode cX6_holds 90 = .ok (.iconst 5, 1) := dk_8 (dk_at dksX6_holds_3 19 rfl rfl)
theorem dX6_holds_91 : decode cX6_holds 91 = .ok (.iadd, 1) := dk_96 (dk_at dksX6_holds_3 20 rfl rfl)
theorem dX6_holds_92 : decode cX6_holds 92 = .ok (.iaload, 1) := dk_46 (dk_at dksX6_holds_3 21 rfl rfl)
theorem dX6_holds_93 : decode cX6_holds 93 = .ok (.bipush 60, 2) := dk_16 60 (dk_at dksX6_holds_3 22 rfl rfl)
theorem dX6_holds_95 : decode cX6_holds 95 = .ok (.if_icmp .ne 24, 3) := dk_160 0 24 (dk_at dksX6_holds_4 0 rfl rfl)
theorem dX6_holds_98 : decode cX6_holds 98 = .ok (.iload 4, 2) := dk_21 4 (dk_at dksX6_holds_4 3 rfl rfl)
theorem dX6_holds_100 : decode cX6_holds 100 = .ok (.aload_n 0, 1) := dk_42 (dk_at dksX6_holds_4 5 rfl rfl)
theorem dX6_holds_101 : decode cX6_holds 101 = .ok (.getfield 7, 3) := dk_180 0 7 (dk_at dksX6_holds_4 6 rfl rfl)
theorem dX6_holds_104 : decode cX6_holds 104 = .ok (.iload_n 1, 1) := dk_27 (dk_at dksX6_holds_4 9 rfl rfl)
theorem dX6_holds_105 : decode cX6_holds 105 = .ok (.iconst 3, 1) := dk_6 (dk_at dksX6_holds_4 10 rfl rfl)
theorem dX6_holds_106 : decode cX6_holds 106 = .ok (.iadd, 1) := dk_96 (dk_at dksX6_holds_4 11 rfl rfl)
theorem dX6_holds_107 : decode cX6_holds 107 = .ok (.iaload, 1) := dk_46 (dk_at dksX6_holds_4 12 rfl rfl)
theorem dX6_holds_108 : decode cX6_holds 108 = .ok (.if_icmp .ge 7, 3) := dk_162 0 7 (dk_at dksX6_holds_4 13 rfl rfl)
theorem dX6_holds_111 : decode cX6_holds 111 = .ok (.iconst 1, 1) := dk_4 (dk_at dksX6_holds_4 16 rfl rfl)
theorem dX6_holds_112 : decode cX6_holds 112 = .ok (.goto 59, 3) := dk_167 0 59 (dk_at dksX6_holds_4 17 rfl rfl)
theorem dX6_holds_115 : decode cX6_holds 115 = .ok (.iconst 0, 1) := dk_3 (dk_at dksX6_holds_4 20 rfl rfl)
theorem dX6_holds_116 : decode cX6_holds 116 = .ok (.goto 55, 3) := dk_167 0 55 (dk_at dksX6_holds_4 21 rfl rfl)
theorem dX6_holds_119 : decode cX6_holds 119 = .ok (.aload_n 0, 1) := dk_42 (dk_at dksX6_holds_5 0 rfl rfl)
theorem dX6_holds_120 : decode cX6_holds 120 = .ok (.getfield 7, 3) := dk_180 0 7 (dk_at dksX6_holds_5 1 rfl rfl)
theorem dX6_holds_123 : decode cX6_holds 123 = .ok (.iload_n 1, 1) := dk_27 (dk_at dksX6_holds_5 4 rfl rfl)
theorem dX6_holds_124 : decode cX6_holds 124 = .ok (.iconst 5, 1) := dk_8 (dk_at dksX6_holds_5 5 rfl rfl)
theorem dX6_holds_125 : decode cX6_holds 125 = .ok (.iadd, 1) := dk_96 (dk_at dksX6_holds_5 6 rfl rfl)
theorem dX6_holds_126 : decode cX6_holds 126 = .ok (.iaload, 1) := dk_46 (dk_at dksX6_holds_5 7 rfl rfl)
theorem dX6_holds_127 : decode cX6_holds 127 = .ok (.bipush 62, 2) := dk_16 62 (dk_at dksX6_holds_5 8 rfl rfl)
theorem dX6_holds_129 : decode cX6_holds 129 = .ok (.if_icmp .ne 24, 3) := dk_160 0 24 (dk_at dksX6_holds_5 10 rfl rfl)
theorem dX6_holds_132 : decode cX6_holds 132 = .ok (.iload 4, 2) := dk_21 4 (dk_at dksX6_holds_5 13 rfl rfl)
theorem dX6_holds_134 : decode cX6_holds 134 = .ok (.aload_n 0, 1) := dk_42 (dk_at dksX6_holds_5 15 rfl rfl)
theorem dX6_holds_135 : decode cX6_holds 135 = .ok (.getfield 7, 3) := dk_180 0 7 (dk_at dksX6_holds_5 16 rfl rfl)
theorem dX6_holds_138 : decode cX6_holds 138 = .ok (.iload_n 1, 1) := dk_27 (dk_at dksX6_holds_5 19 rfl rfl)
theorem dX6_holds_139 : decode cX6_holds 139 = .ok (.iconst 3, 1) := dk_6 (dk_at dksX6_holds_5 20 rfl rfl)
theorem dX6_holds_140 : decode cX6_holds 140 = .ok (.iadd, 1) := dk_96 (dk_at dksX6_holds_5 21 rfl rfl)
theorem dX6_holds_141 : decode cX6_holds 141 = .ok (.iaload, 1) := dk_46 (dk_at dksX6_holds_5 22 rfl rfl)
theorem dX6_holds_142 : decode cX6_holds 142 = .ok (.if_icmp .le 7, 3) := dk_164 0 7 (dk_at dksX6_holds_6 0 rfl rfl)
theorem dX6_holds_145 : decode cX6_holds 145 = .ok (.iconst 1, 1) := dk_4 (dk_at dksX6_holds_6 3 rfl rfl)
theorem dX6_holds_146 : decode cX6_holds 146 = .ok (.goto 25, 3) := dk_167 0 25 (dk_at dksX6_holds_6 4 rfl rfl)
theorem dX6_holds_149 : decode cX6_holds 149 = .ok (.iconst 0, 1) := dk_3 (dk_at dksX6_holds_6 7 rfl rfl)
theorem dX6_holds_150 : decode cX6_holds 150 = .ok (.goto 21, 3) := dk_167 0 21 (dk_at dksX6_holds_6 8 rfl rfl)
theorem dX6_holds_153 : decode cX6_holds 153 = .ok (.iload 4, 2) := dk_21 4 (dk_at dksX6_holds_6 11 rfl rfl)
theorem dX6_holds_155 : decode cX6_holds 155 = .ok (.aload_n 0, 1) := dk_42 (dk_at dksX6_holds_6 13 rfl rfl)
theorem dX6_holds_156 : decode cX6_holds 156 = .ok (.getfield 7, 3) := dk_180 0 7 (dk_at dksX6_holds_6 14 rfl rfl)
theorem dX6_holds_159 : decode cX6_holds 159 = .ok (.iload_n 1, 1) := dk_27 (dk_at dksX6_holds_6 17 rfl rfl)
theorem dX6_holds_160 : decode cX6_holds 160 = .ok (.iconst 3, 1) := dk_6 (dk_at dksX6_holds_6 18 rfl rfl)
theorem dX6_holds_161 : decode cX6_holds 161 = .ok (.iadd, 1) := dk_96 (dk_at dksX6_holds_6 19 rfl rfl)
theorem dX6_holds_162 : decode cX6_holds 162 = .ok (.iaload, 1) := dk_46 (dk_at dksX6_holds_6 20 rfl rfl)
theorem dX6_holds_163 : decode cX6_holds 163 = .ok (.if_icmp .ne 7, 3) := dk_160 0 7 (dk_at dksX6_holds_6 21 rfl rfl)
theorem dX6_holds_166 : decode cX6_holds 166 = .ok (.iconst 1, 1) := dk_4 (dk_at dksX6_holds_7 0 rfl rfl)
theorem dX6_holds_167 : decode cX6_holds 167 = .ok (.goto 4, 3) := dk_167 0 4 (dk_at dksX6_holds_7 1 rfl rfl)
theorem dX6_holds_170 : decode cX6_holds 170 = .ok (.iconst 0, 1) := dk_3 (dk_at dksX6_holds_7 4 rfl rfl)
theorem dX6_holds_171 : decode cX6_holds 171 = .ok (.ireturn, 1) := dk_172 (dk_at dksX6_holds_7 5 rfl rfl)
abbrev cX6_behindEnds : ByteArray := prog_16_method_147_code
def yX6_behindEnds : MethodName := ⟨RX6, "behindEnds", "(I)I"⟩
def dkwX6_behindEnds_5 : List UInt8 := [28, 172]
abbrev dktX6_behindEnds_5 : List UInt8 := dkwX6_behindEnds_5 ++ []
def dkwX6_behindEnds_4 : List UInt8 := [167, 0, 4, 3, 100, 79, 21, 4, 153, 0, 9, 29, 4, 96, 167, 0, 6, 28, 4, 96, 61, 167, 255, 143]
abbrev dktX6_behindEnds_4 : List UInt8 := dkwX6_behindEnds_4 ++ dktX6_behindEnds_5
def dkwX6_behindEnds_3 : List UInt8 := [158, 0, 7, 4, 167, 0, 4, 3, 54, 4, 42, 180, 0, 56, 29, 92, 46, 21, 4, 153, 0, 7, 4]
abbrev dktX6_behindEnds_3 : List UInt8 := dkwX6_behindEnds_3 ++ dktX6_behindEnds_4
def dkwX6_behindEnds_2 : List UInt8 := [180, 0, 7, 17, 0, 130, 16, 6, 29, 104, 96, 46, 16, 25, 160, 0, 16, 42, 180, 0, 56, 29, 46]
abbrev dktX6_behindEnds_2 : List UInt8 := dkwX6_behindEnds_2 ++ dktX6_behindEnds_3
def dkwX6_behindEnds_1 : List UInt8 := [96, 46, 16, 26, 160, 0, 90, 42, 180, 0, 7, 17, 0, 130, 16, 6, 28, 104, 96, 7, 96, 46, 62, 42]
abbrev dktX6_behindEnds_1 : List UInt8 := dkwX6_behindEnds_1 ++ dktX6_behindEnds_2
def dkwX6_behindEnds_0 : List UInt8 := [27, 61, 28, 42, 180, 0, 7, 16, 9, 46, 162, 0, 108, 42, 180, 0, 7, 17, 0, 130, 16, 6, 28, 104]
abbrev dktX6_behindEnds_0 : List UInt8 := dkwX6_behindEnds_0 ++ dktX6_behindEnds_1
theorem dksX6_behindEnds_0 : cX6_behindEnds.data.toList.drop 0 = dktX6_behindEnds_0 := by decide +kernel
theorem dksX6_behindEnds_1 : cX6_behindEnds.data.toList.drop 24 = dktX6_behindEnds_1 := dk_seg dksX6_behindEnds_0 24 rfl rfl
theorem dksX6_behindEnds_2 : cX6_behindEnds.data.toList.drop 48 = dktX6_behindEnds_2 := dk_seg dksX6_behindEnds_1 24 rfl rfl
theorem dksX6_behindEnds_3 : cX6_behindEnds.data.toList.drop 71 = dktX6_behindEnds_3 := dk_seg dksX6_behindEnds_2 23 rfl rfl
theorem dksX6_behindEnds_4 : cX6_behindEnds.data.toList.drop 94 = dktX6_behindEnds_4 := dk_seg dksX6_behindEnds_3 23 rfl rfl
theorem dksX6_behindEnds_5 : cX6_behindEnds.data.toList.drop 118 = dktX6_behindEnds_5 := dk_seg dksX6_behindEnds_4 24 rfl rfl
theorem dX6_behindEnds_0 : decode cX6_behindEnds 0 = .ok (.iload_n 1, 1) := dk_27 (dk_at dksX6_behindEnds_0 0 rfl rfl)
theorem dX6_behindEnds_1 : decode cX6_behindEnds 1 = .ok (.istore_n 2, 1) := dk_61 (dk_at dksX6_behindEnds_0 1 rfl rfl)
theorem dX6_behindEnds_2 : decode cX6_behindEnds 2 = .ok (.iload_n 2, 1) := dk_28 (dk_at dksX6_behindEnds_0 2 rfl rfl)
theorem dX6_behindEnds_3 : decode cX6_behindEnds 3 = .ok (.aload_n 0, 1) := dk_42 (dk_at dksX6_behindEnds_0 3 rfl rfl)
theorem dX6_behindEnds_4 : decode cX6_behindEnds 4 = .ok (.getfield 7, 3) := dk_180 0 7 (dk_at dksX6_behindEnds_0 4 rfl rfl)
theorem dX6_behindEnds_7 : decode cX6_behindEnds 7 = .ok (.bipush 9, 2) := dk_16 9 (dk_at dksX6_behindEnds_0 7 rfl rfl)
theorem dX6_behindEnds_9 : decode cX6_behindEnds 9 = .ok (.iaload, 1) := dk_46 (dk_at dksX6_behindEnds_0 9 rfl rfl)
theorem dX6_behindEnds_10 : decode cX6_behindEnds 10 = .ok (.if_icmp .ge 108, 3) := dk_162 0 108 (dk_at dksX6_behindEnds_0 10 rfl rfl)
theorem dX6_behindEnds_13 : decode cX6_behindEnds 13 = .ok (.aload_n 0, 1) := dk_42 (dk_at dksX6_behindEnds_0 13 rfl rfl)
theorem dX6_behindEnds_14 : decode cX6_behindEnds 14 = .ok (.getfield 7, 3) := dk_180 0 7 (dk_at dksX6_behindEnds_0 14 rfl rfl)
theorem dX6_behindEnds_17 : decode cX6_behindEnds 17 = .ok (.sipush 130, 3) := dk_17 0 130 (dk_at dksX6_behindEnds_0 17 rfl rfl)
theorem dX6_behindEnds_20 : decode cX6_behindEnds 20 = .ok (.bipush 6, 2) := dk_16 6 (dk_at dksX6_behindEnds_0 20 rfl rfl)
theorem dX6_behindEnds_22 : decode cX6_behindEnds 22 = .ok (.iload_n 2, 1) := dk_28 (dk_at dksX6_behindEnds_0 22 rfl rfl)
theorem dX6_behindEnds_23 : decode cX6_behindEnds 23 = .ok (.imul, 1) := dk_104 (dk_at dksX6_behindEnds_0 23 rfl rfl)
theorem dX6_behindEnds_24 : decode cX6_behindEnds 24 = .ok (.iadd, 1) := dk_96 (dk_at dksX6_behindEnds_1 0 rfl rfl)
theorem dX6_behindEnds_25 : decode cX6_behindEnds 25 = .ok (.iaload, 1) := dk_46 (dk_at dksX6_behindEnds_1 1 rfl rfl)
theorem dX6_behindEnds_26 : decode cX6_behindEnds 26 = .ok (.bipush 26, 2) := dk_16 26 (dk_at dksX6_behindEnds_1 2 rfl rfl)
theorem dX6_behindEnds_28 : decode cX6_behindEnds 28 = .ok (.if_icmp .ne 90, 3) := dk_160 0 90 (dk_at dksX6_behindEnds_1 4 rfl rfl)
theorem dX6_behindEnds_31 : decode cX6_behindEnds 31 = .ok (.aload_n 0, 1) := dk_42 (dk_at dksX6_behindEnds_1 7 rfl rfl)
theorem dX6_behindEnds_32 : decode cX6_behindEnds 32 = .ok (.getfield 7, 3) := dk_180 0 7 (dk_at dksX6_behindEnds_1 8 rfl rfl)
theorem dX6_behindEnds_35 : decode cX6_behindEnds 35 = .ok (.sipush 130, 3) := dk_17 0 130 (dk_at dksX6_behindEnds_1 11 rfl rfl)
theorem dX6_behindEnds_38 : decode cX6_behindEnds 38 = .ok (.bipush 6, 2) := dk_16 6 (dk_at dksX6_behindEnds_1 14 rfl rfl)
theorem dX6_behindEnds_40 : decode cX6_behindEnds 40 = .ok (.iload_n 2, 1) := dk_28 (dk_at dksX6_behindEnds_1 16 rfl rfl)
theorem dX6_behindEnds_41 : decode cX6_behindEnds 41 = .ok (.imul, 1) := dk_104 (dk_at dksX6_behindEnds_1 17 rfl rfl)
theorem dX6_behindEnds_42 : decode cX6_behindEnds 42 = .ok (.iadd, 1) := dk_96 (dk_at dksX6_behindEnds_1 18 rfl rfl)
theorem dX6_behindEnds_43 : decode cX6_behindEnds 43 = .ok (.iconst 4, 1) := dk_7 (dk_at dksX6_behindEnds_1 19 rfl rfl)
theorem dX6_behindEnds_44 : decode cX6_behindEnds 44 = .ok (.iadd, 1) := dk_96 (dk_at dksX6_behindEnds_1 20 rfl rfl)
theorem dX6_behindEnds_45 : decode cX6_behindEnds 45 = .ok (.iaload, 1) := dk_46 (dk_at dksX6_behindEnds_1 21 rfl rfl)
theorem dX6_behindEnds_46 : decode cX6_behindEnds 46 = .ok (.istore_n 3, 1) := dk_62 (dk_at dksX6_behindEnds_1 22 rfl rfl)
theorem dX6_behindEnds_47 : decode cX6_behindEnds 47 = .ok (.aload_n 0, 1) := dk_42 (dk_at dksX6_behindEnds_1 23 rfl rfl)
theorem dX6_behindEnds_48 : decode cX6_behindEnds 48 = .ok (.getfield 7, 3) := dk_180 0 7 (dk_at dksX6_behindEnds_2 0 rfl rfl)
theorem dX6_behindEnds_51 : decode cX6_behindEnds 51 = .ok (.sipush 130, 3) := dk_17 0 130 (dk_at dksX6_behindEnds_2 3 rfl rfl)
theorem dX6_behindEnds_54 : decode cX6_behindEnds 54 = .ok (.bipush 6, 2) := dk_16 6 (dk_at dksX6_behindEnds_2 6 rfl rfl)
theorem dX6_behindEnds_56 : decode cX6_behindEnds 56 = .ok (.iload_n 3, 1) := dk_29 (dk_at dksX6_behindEnds_2 8 rfl rfl)
theorem dX6_behindEnds_57 : decode cX6_behindEnds 57 = .ok (.imul, 1) := dk_104 (dk_at dksX6_behindEnds_2 9 rfl rfl)
theorem dX6_behindEnds_58 : decode cX6_behindEnds 58 = .ok (.iadd, 1) := dk_96 (dk_at dksX6_behindEnds_2 10 rfl rfl)
theorem dX6_behindEnds_59 : decode cX6_behindEnds 59 = .ok (.iaload, 1) := dk_46 (dk_at dksX6_behindEnds_2 11 rfl rfl)
theorem dX6_behindEnds_60 : decode cX6_behindEnds 60 = .ok (.bipush 25, 2) := dk_16 25 (dk_at dksX6_behindEnds_2 12 rfl rfl)
theorem dX6_behindEnds_62 : decode cX6_behindEnds 62 = .ok (.if_icmp .ne 16, 3) := dk_160 0 16 (dk_at dksX6_behindEnds_2 14 rfl rfl)
theorem dX6_behindEnds_65 : decode cX6_behindEnds 65 = .ok (.aload_n 0, 1) := dk_42 (dk_at dksX6_behindEnds_2 17 rfl rfl)
theorem dX6_behindEnds_66 : decode cX6_behindEnds 66 = .ok (.getfield 56, 3) := dk_180 0 56 (dk_at dksX6_behindEnds_2 18 rfl rfl)
theorem dX6_behindEnds_69 : decode cX6_behindEnds 69 = .ok (.iload_n 3, 1) := dk_29 (dk_at dksX6_behindEnds_2 21 rfl rfl)
theorem dX6_behindEnds_70 : decode cX6_behindEnds 70 = .ok (.iaload, 1) := dk_46 (dk_at dksX6_behindEnds_2 22 rfl rfl)
theorem dX6_behindEnds_71 : decode cX6_behindEnds 71 = .ok (.ifCond .le 7, 3) := dk_158 0 7 (dk_at dksX6_behindEnds_3 0 rfl rfl)
theorem dX6_behindEnds_74 : decode cX6_behindEnds 74 = .ok (.iconst 1, 1) := dk_4 (dk_at dksX6_behindEnds_3 3 rfl rfl)
theorem dX6_behindEnds_75 : decode cX6_behindEnds 75 = .ok (.goto 4, 3) := dk_167 0 4 (dk_at dksX6_behindEnds_3 4 rfl rfl)
theorem dX6_behindEnds_78 : decode cX6_behindEnds 78 = .ok (.iconst 0, 1) := dk_3 (dk_at dksX6_behindEnds_3 7 rfl rfl)
theorem dX6_behindEnds_79 : decode cX6_behindEnds 79 = .ok (.istore 4, 2) := dk_54 4 (dk_at dksX6_behindEnds_3 8 rfl rfl)
theorem dX6_behindEnds_81 : decode cX6_behindEnds 81 = .ok (.aload_n 0, 1) := dk_42 (dk_at dksX6_behindEnds_3 10 rfl rfl)
theorem dX6_behindEnds_82 : decode cX6_behindEnds 82 = .ok (.getfield 56, 3) := dk_180 0 56 (dk_at dksX6_behindEnds_3 11 rfl rfl)
theorem dX6_behindEnds_85 : decode cX6_behindEnds 85 = .ok (.iload_n 3, 1) := dk_29 (dk_at dksX6_behindEnds_3 14 rfl rfl)
theorem dX6_behindEnds_86 : decode cX6_behindEnds 86 = .ok (.dup2, 1) := dk_92 (dk_at dksX6_behindEnds_3 15 rfl rfl)
theorem dX6_behindEnds_87 : decode cX6_behindEnds 87 = .ok (.iaload, 1) := dk_46 (dk_at dksX6_behindEnds_3 16 rfl rfl)
theorem dX6_behindEnds_88 : decode cX6_behindEnds 88 = .ok (.iload 4, 2) := dk_21 4 (dk_at dksX6_behindEnds_3 17 rfl rfl)
theorem dX6_behindEnds_90 : decode cX6_behindEnds 90 = .ok (.ifCond .eq 7, 3) := dk_153 0 7 (dk_at dksX6_behindEnds_3 19 rfl rfl)
theorem dX6_behindEnds_93 : decode cX6_behindEnds 93 = .ok (.iconst 1, 1) := dk_4 (dk_at dksX6_behindEnds_3 22 rfl rfl)
theorem dX6_behindEnds_94 : decode cX6_behindEnds 94 = .ok (.goto 4, 3) := dk_167 0 4 (dk_at dksX6_behindEnds_4 0 rfl rfl)
theorem dX6_behindEnds_97 : decode cX6_behindEnds 97 = .ok (.iconst 0, 1) := dk_3 (dk_at dksX6_behindEnds_4 3 rfl rfl)
theorem dX6_behindEnds_98 : decode cX6_behindEnds 98 = .ok (.isub, 1) := dk_100 (dk_at dksX6_behindEnds_4 4 rfl rfl)
theorem dX6_behindEnds_99 : decode cX6_behindEnds 99 = .ok (.iastore, 1) := dk_79 (dk_at dksX6_behindEnds_4 5 rfl rfl)
theorem dX6_behindEnds_100 : decode cX6_behindEnds 100 = .ok (.iload 4, 2) := dk_21 4 (dk_at dksX6_behindEnds_4 6 rfl rfl)
theorem dX6_behindEnds_102 : decode cX6_behindEnds 102 = .ok (.ifCond .eq 9, 3) := dk_153 0 9 (dk_at dksX6_behindEnds_4 8 rfl rfl)
theorem dX6_behindEnds_105 : decode cX6_behindEnds 105 = .ok (.iload_n 3, 1) := dk_29 (dk_at dksX6_behindEnds_4 11 rfl rfl)
theorem dX6_behindEnds_106 : decode cX6_behindEnds 106 = .ok (.iconst 1, 1) := dk_4 (dk_at dksX6_behindEnds_4 12 rfl rfl)
theorem dX6_behindEnds_107 : decode cX6_behindEnds 107 = .ok (.iadd, 1) := dk_96 (dk_at dksX6_behindEnds_4 13 rfl rfl)
theorem dX6_behindEnds_108 : decode cX6_behindEnds 108 = .ok (.goto 6, 3) := dk_167 0 6 (dk_at dksX6_behindEnds_4 14 rfl rfl)
theorem dX6_behindEnds_111 : decode cX6_behindEnds 111 = .ok (.iload_n 2, 1) := dk_28 (dk_at dksX6_behindEnds_4 17 rfl rfl)
theorem dX6_behindEnds_112 : decode cX6_behindEnds 112 = .ok (.iconst 1, 1) := dk_4 (dk_at dksX6_behindEnds_4 18 rfl rfl)
theorem dX6_behindEnds_113 : decode cX6_behindEnds 113 = .ok (.iadd, 1) := dk_96 (dk_at dksX6_behindEnds_4 19 rfl rfl)
theorem dX6_behindEnds_114 : decode cX6_behindEnds 114 = .ok (.istore_n 2, 1) := dk_61 (dk_at dksX6_behindEnds_4 20 rfl rfl)
theorem dX6_behindEnds_115 : decode cX6_behindEnds 115 = .ok (.goto (-113), 3) := dk_167 255 143 (dk_at dksX6_behindEnds_4 21 rfl rfl)
theorem dX6_behindEnds_118 : decode cX6_behindEnds 118 = .ok (.iload_n 2, 1) := dk_28 (dk_at dksX6_behindEnds_5 0 rfl rfl)
theorem dX6_behindEnds_119 : decode cX6_behindEnds 119 = .ok (.ireturn, 1) := dk_172 (dk_at dksX6_behindEnds_5 1 rfl rfl)
abbrev cX6_lived : ByteArray := prog_16_method_150_code
def yX6_lived : MethodName := ⟨RX6, "lived", "(I)I"⟩
def dkwX6_lived_1 : List UInt8 := [42, 42, 180, 0, 62, 27, 46, 182, 0, 79, 167, 0, 9, 42, 16, 6, 182, 0, 75, 172]
abbrev dktX6_lived_1 : List UInt8 := dkwX6_lived_1 ++ []
def dkwX6_lived_0 : List UInt8 := [27, 155, 0, 8, 27, 7, 164, 0, 11, 42, 4, 182, 0, 75, 167, 0, 29, 42, 180, 1, 199, 153, 0, 16]
abbrev dktX6_lived_0 : List UInt8 := dkwX6_lived_0 ++ dktX6_lived_1
theorem dksX6_lived_0 : cX6_lived.data.toList.drop 0 = dktX6_lived_0 := by decide +kernel
theorem dksX6_lived_1 : cX6_lived.data.toList.drop 24 = dktX6_lived_1 := dk_seg dksX6_lived_0 24 rfl rfl
theorem dX6_lived_0 : decode cX6_lived 0 = .ok (.iload_n 1, 1) := dk_27 (dk_at dksX6_lived_0 0 rfl rfl)
theorem dX6_lived_1 : decode cX6_lived 1 = .ok (.ifCond .lt 8, 3) := dk_155 0 8 (dk_at dksX6_lived_0 1 rfl rfl)
theorem dX6_lived_4 : decode cX6_lived 4 = .ok (.iload_n 1, 1) := dk_27 (dk_at dksX6_lived_0 4 rfl rfl)
theorem dX6_lived_5 : decode cX6_lived 5 = .ok (.iconst 4, 1) := dk_7 (dk_at dksX6_lived_0 5 rfl rfl)
theorem dX6_lived_6 : decode cX6_lived 6 = .ok (.if_icmp .le 11, 3) := dk_164 0 11 (dk_at dksX6_lived_0 6 rfl rfl)
theorem dX6_lived_9 : decode cX6_lived 9 = .ok (.aload_n 0, 1) := dk_42 (dk_at dksX6_lived_0 9 rfl rfl)
theorem dX6_lived_10 : decode cX6_lived 10 = .ok (.iconst 1, 1) := dk_4 (dk_at dksX6_lived_0 10 rfl rfl)
theorem dX6_lived_11 : decode cX6_lived 11 = .ok (.invokevirtual 75, 3) := dk_182 0 75 (dk_at dksX6_lived_0 11 rfl rfl)
theorem dX6_lived_14 : decode cX6_lived 14 = .ok (.goto 29, 3) := dk_167 0 29 (dk_at dksX6_lived_0 14 rfl rfl)
theorem dX6_lived_17 : decode cX6_lived 17 = .ok (.aload_n 0, 1) := dk_42 (dk_at dksX6_lived_0 17 rfl rfl)
theorem dX6_lived_18 : decode cX6_lived 18 = .ok (.getfield 455, 3) := dk_180 1 199 (dk_at dksX6_lived_0 18 rfl rfl)
theorem dX6_lived_21 : decode cX6_lived 21 = .ok (.ifCond .eq 16, 3) := dk_153 0 16 (dk_at dksX6_lived_0 21 rfl rfl)
theorem dX6_lived_24 : decode cX6_lived 24 = .ok (.aload_n 0, 1) := dk_42 (dk_at dksX6_lived_1 0 rfl rfl)
theorem dX6_lived_25 : decode cX6_lived 25 = .ok (.aload_n 0, 1) := dk_42 (dk_at dksX6_lived_1 1 rfl rfl)
theorem dX6_lived_26 : decode cX6_lived 26 = .ok (.getfield 62, 3) := dk_180 0 62 (dk_at dksX6_lived_1 2 rfl rfl)
theorem dX6_lived_29 : decode cX6_lived 29 = .ok (.iload_n 1, 1) := dk_27 (dk_at dksX6_lived_1 5 rfl rfl)
theorem dX6_lived_30 : decode cX6_lived 30 = .ok (.iaload, 1) := dk_46 (dk_at dksX6_lived_1 6 rfl rfl)
theorem dX6_lived_31 : decode cX6_lived 31 = .ok (.invokevirtual 79, 3) := dk_182 0 79 (dk_at dksX6_lived_1 7 rfl rfl)
theorem dX6_lived_34 : decode cX6_lived 34 = .ok (.goto 9, 3) := dk_167 0 9 (dk_at dksX6_lived_1 10 rfl rfl)
theorem dX6_lived_37 : decode cX6_lived 37 = .ok (.aload_n 0, 1) := dk_42 (dk_at dksX6_lived_1 13 rfl rfl)
theorem dX6_lived_38 : decode cX6_lived 38 = .ok (.bipush 6, 2) := dk_16 6 (dk_at dksX6_lived_1 14 rfl rfl)
theorem dX6_lived_40 : decode cX6_lived 40 = .ok (.invokevirtual 75, 3) := dk_182 0 75 (dk_at dksX6_lived_1 16 rfl rfl)
theorem dX6_lived_43 : decode cX6_lived 43 = .ok (.ireturn, 1) := dk_172 (dk_at dksX6_lived_1 19 rfl rfl)
abbrev cX6_mean : ByteArray := prog_16_method_151_code
def yX6_mean : MethodName := ⟨RX6, "mean", "(III)Z"⟩
def dkwX6_mean_8 : List UInt8 := [182, 1, 87, 172]
abbrev dktX6_mean_8 : List UInt8 := dkwX6_mean_8 ++ []
def dkwX6_mean_7 : List UInt8 := [21, 7, 96, 46, 79, 132, 7, 1, 167, 255, 227, 132, 6, 1, 167, 255, 187, 42, 22, 4, 29, 133]
abbrev dktX6_mean_7 : List UInt8 := dkwX6_mean_7 ++ dktX6_mean_8
def dkwX6_mean_6 : List UInt8 := [54, 7, 21, 7, 17, 0, 130, 162, 0, 27, 42, 180, 0, 7, 21, 7, 42, 180, 0, 7, 17, 9, 196]
abbrev dktX6_mean_6 : List UInt8 := dkwX6_mean_6 ++ dktX6_mean_7
def dkwX6_mean_5 : List UInt8 := [21, 6, 96, 182, 1, 196, 22, 4, 42, 180, 0, 7, 27, 184, 1, 11, 8, 96, 46, 133, 97, 55, 4, 3]
abbrev dktX6_mean_5 : List UInt8 := dkwX6_mean_5 ++ dktX6_mean_6
def dkwX6_mean_4 : List UInt8 := [21, 4, 46, 79, 132, 4, 1, 167, 255, 227, 9, 55, 4, 3, 54, 6, 21, 6, 29, 162, 0, 69, 42, 28]
abbrev dktX6_mean_4 : List UInt8 := dkwX6_mean_4 ++ dktX6_mean_5
def dkwX6_mean_3 : List UInt8 := [54, 4, 21, 4, 17, 0, 130, 162, 0, 27, 42, 180, 0, 7, 17, 9, 196, 21, 4, 96, 42, 180, 0, 7]
abbrev dktX6_mean_3 : List UInt8 := dkwX6_mean_3 ++ dktX6_mean_4
def dkwX6_mean_2 : List UInt8 := [182, 0, 82, 172, 42, 180, 0, 7, 16, 9, 46, 2, 160, 0, 10, 42, 16, 6, 182, 0, 82, 172, 3]
abbrev dktX6_mean_2 : List UInt8 := dkwX6_mean_2 ++ dktX6_mean_3
def dkwX6_mean_1 : List UInt8 := [20, 1, 203, 184, 1, 46, 153, 0, 14, 28, 29, 96, 4, 100, 17, 39, 15, 164, 0, 9, 42, 4]
abbrev dktX6_mean_1 : List UInt8 := dkwX6_mean_1 ++ dktX6_mean_2
def dkwX6_mean_0 : List UInt8 := [42, 27, 182, 0, 248, 153, 0, 38, 28, 133, 9, 20, 1, 52, 184, 1, 46, 153, 0, 26, 29, 133, 10]
abbrev dktX6_mean_0 : List UInt8 := dkwX6_mean_0 ++ dktX6_mean_1
theorem dksX6_mean_0 : cX6_mean.data.toList.drop 0 = dktX6_mean_0 := by decide +kernel
theorem dksX6_mean_1 : cX6_mean.data.toList.drop 23 = dktX6_mean_1 := dk_seg dksX6_mean_0 23 rfl rfl
theorem dksX6_mean_2 : cX6_mean.data.toList.drop 45 = dktX6_mean_2 := dk_seg dksX6_mean_1 22 rfl rfl
theorem dksX6_mean_3 : cX6_mean.data.toList.drop 68 = dktX6_mean_3 := dk_seg dksX6_mean_2 23 rfl rfl
theorem dksX6_mean_4 : cX6_mean.data.toList.drop 92 = dktX6_mean_4 := dk_seg dksX6_mean_3 24 rfl rfl
theorem dksX6_mean_5 : cX6_mean.data.toList.drop 116 = dktX6_mean_5 := dk_seg dksX6_mean_4 24 rfl rfl
theorem dksX6_mean_6 : cX6_mean.data.toList.drop 140 = dktX6_mean_6 := dk_seg dksX6_mean_5 24 rfl rfl
theorem dksX6_mean_7 : cX6_mean.data.toList.drop 163 = dktX6_mean_7 := dk_seg dksX6_mean_6 23 rfl rfl
theorem dksX6_mean_8 : cX6_mean.data.toList.drop 185 = dktX6_mean_8 := dk_seg dksX6_mean_7 22 rfl rfl
theorem dX6_mean_0 : decode cX6_mean 0 = .ok (.aload_n 0, 1) := dk_42 (dk_at dksX6_mean_0 0 rfl rfl)
theorem dX6_mean_1 : decode cX6_mean 1 = .ok (.iload_n 1, 1) := dk_27 (dk_at dksX6_mean_0 1 rfl rfl)
theorem dX6_mean_2 : decode cX6_mean 2 = .ok (.invokevirtual 248, 3) := dk_182 0 248 (dk_at dksX6_mean_0 2 rfl rfl)
theorem dX6_mean_5 : decode cX6_mean 5 = .ok (.ifCond .eq 38, 3) := dk_153 0 38 (dk_at dksX6_mean_0 5 rfl rfl)
theorem dX6_mean_8 : decode cX6_mean 8 = .ok (.iload_n 2, 1) := dk_28 (dk_at dksX6_mean_0 8 rfl rfl)
theorem dX6_mean_9 : decode cX6_mean 9 = .ok (.i2l, 1) := dk_133 (dk_at dksX6_mean_0 9 rfl rfl)
theorem dX6_mean_10 : decode cX6_mean 10 = .ok (.lconst 0, 1) := dk_9 (dk_at dksX6_mean_0 10 rfl rfl)
theorem dX6_mean_11 : decode cX6_mean 11 = .ok (.ldc2_w 308, 3) := dk_20 1 52 (dk_at dksX6_mean_0 11 rfl rfl)
theorem dX6_mean_14 : decode cX6_mean 14 = .ok (.invokestatic 302, 3) := dk_184 1 46 (dk_at dksX6_mean_0 14 rfl rfl)
theorem dX6_mean_17 : decode cX6_mean 17 = .ok (.ifCond .eq 26, 3) := dk_153 0 26 (dk_at dksX6_mean_0 17 rfl rfl)
theorem dX6_mean_20 : decode cX6_mean 20 = .ok (.iload_n 3, 1) := dk_29 (dk_at dksX6_mean_0 20 rfl rfl)
theorem dX6_mean_21 : decode cX6_mean 21 = .ok (.i2l, 1) := dk_133 (dk_at dksX6_mean_0 21 rfl rfl)
theorem dX6_mean_22 : decode cX6_mean 22 = .ok (.lconst 1, 1) := dk_10 (dk_at dksX6_mean_0 22 rfl rfl)
theorem dX6_mean_23 : decode cX6_mean 23 = .ok (.ldc2_w 459, 3) := dk_20 1 203 (dk_at dksX6_mean_1 0 rfl rfl)
theorem dX6_mean_26 : decode cX6_mean 26 = .ok (.invokestatic 302, 3) := dk_184 1 46 (dk_at dksX6_mean_1 3 rfl rfl)
theorem dX6_mean_29 : decode cX6_mean 29 = .ok (.ifCond .eq 14, 3) := dk_153 0 14 (dk_at dksX6_mean_1 6 rfl rfl)
theorem dX6_mean_32 : decode cX6_mean 32 = .ok (.iload_n 2, 1) := dk_28 (dk_at dksX6_mean_1 9 rfl rfl)
theorem dX6_mean_33 : decode cX6_mean 33 = .ok (.iload_n 3, 1) := dk_29 (dk_at dksX6_mean_1 10 rfl rfl)
theorem dX6_mean_34 : decode cX6_mean 34 = .ok (.iadd, 1) := dk_96 (dk_at dksX6_mean_1 11 rfl rfl)
theorem dX6_mean_35 : decode cX6_mean 35 = .ok (.iconst 1, 1) := dk_4 (dk_at dksX6_mean_1 12 rfl rfl)
theorem dX6_mean_36 : decode cX6_mean 36 = .ok (.isub, 1) := dk_100 (dk_at dksX6_mean_1 13 rfl rfl)
theorem dX6_mean_37 : decode cX6_mean 37 = .ok (.sipush 9999, 3) := dk_17 39 15 (dk_at dksX6_mean_1 14 rfl rfl)
theorem dX6_mean_40 : decode cX6_mean 40 = .ok (.if_icmp .le 9, 3) := dk_164 0 9 (dk_at dksX6_mean_1 17 rfl rfl)
theorem dX6_mean_43 : decode cX6_mean 43 = .ok (.aload_n 0, 1) := dk_42 (dk_at dksX6_mean_1 20 rfl rfl)
theorem dX6_mean_44 : decode cX6_mean 44 = .ok (.iconst 1, 1) := dk_4 (dk_at dksX6_mean_1 21 rfl rfl)
theorem dX6_mean_45 : decode cX6_mean 45 = .ok (.invokevirtual 82, 3) := dk_182 0 82 (dk_at dksX6_mean_2 0 rfl rfl)
theorem dX6_mean_48 : decode cX6_mean 48 = .ok (.ireturn, 1) := dk_172 (dk_at dksX6_mean_2 3 rfl rfl)
theorem dX6_mean_49 : decode cX6_mean 49 = .ok (.aload_n 0, 1) := dk_42 (dk_at dksX6_mean_2 4 rfl rfl)
theorem dX6_mean_50 : decode cX6_mean 50 = .ok (.getfield 7, 3) := dk_180 0 7 (dk_at dksX6_mean_2 5 rfl rfl)
theorem dX6_mean_53 : decode cX6_mean 53 = .ok (.bipush 9, 2) := dk_16 9 (dk_at dksX6_mean_2 8 rfl rfl)
theorem dX6_mean_55 : decode cX6_mean 55 = .ok (.iaload, 1) := dk_46 (dk_at dksX6_mean_2 10 rfl rfl)
theorem dX6_mean_56 : decode cX6_mean 56 = .ok (.iconst (-1), 1) := dk_2 (dk_at dksX6_mean_2 11 rfl rfl)
theorem dX6_mean_57 : decode cX6_mean 57 = .ok (.if_icmp .ne 10, 3) := dk_160 0 10 (dk_at dksX6_mean_2 12 rfl rfl)
theorem dX6_mean_60 : decode cX6_mean 60 = .ok (.aload_n 0, 1) := dk_42 (dk_at dksX6_mean_2 15 rfl rfl)
theorem dX6_mean_61 : decode cX6_mean 61 = .ok (.bipush 6, 2) := dk_16 6 (dk_at dksX6_mean_2 16 rfl rfl)
theorem dX6_mean_63 : decode cX6_mean 63 = .ok (.invokevirtual 82, 3) := dk_182 0 82 (dk_at dksX6_mean_2 18 rfl rfl)
theorem dX6_mean_66 : decode cX6_mean 66 = .ok (.ireturn, 1) := dk_172 (dk_at dksX6_mean_2 21 rfl rfl)
theorem dX6_mean_67 : decode cX6_mean 67 = .ok (.iconst 0, 1) := dk_3 (dk_at dksX6_mean_2 22 rfl rfl)
theorem dX6_mean_68 : decode cX6_mean 68 = .ok (.istore 4, 2) := dk_54 4 (dk_at dksX6_mean_3 0 rfl rfl)
theorem dX6_mean_70 : decode cX6_mean 70 = .ok (.iload 4, 2) := dk_21 4 (dk_at dksX6_mean_3 2 rfl rfl)
theorem dX6_mean_72 : decode cX6_mean 72 = .ok (.sipush 130, 3) := dk_17 0 130 (dk_at dksX6_mean_3 4 rfl rfl)
theorem dX6_mean_75 : decode cX6_mean 75 = .ok (.if_icmp .ge 27, 3) := dk_162 0 27 (dk_at dksX6_mean_3 7 rfl rfl)
theorem dX6_mean_78 : decode cX6_mean 78 = .ok (.aload_n 0, 1) := dk_42 (dk_at dksX6_mean_3 10 rfl rfl)
theorem dX6_mean_79 : decode cX6_mean 79 = .ok (.getfield 7, 3) := dk_180 0 7 (dk_at dksX6_mean_3 11 rfl rfl)
theorem dX6_mean_82 : decode cX6_mean 82 = .ok (.sipush 2500, 3) := dk_17 9 196 (dk_at dksX6_mean_3 14 rfl rfl)
theorem dX6_mean_85 : decode cX6_mean 85 = .ok (.iload 4, 2) := dk_21 4 (dk_at dksX6_mean_3 17 rfl rfl)
theorem dX6_mean_87 : decode cX6_mean 87 = .ok (.iadd, 1) := dk_96 (dk_at dksX6_mean_3 19 rfl rfl)
theorem dX6_mean_88 : decode cX6_mean 88 = .ok (.aload_n 0, 1) := dk_42 (dk_at dksX6_mean_3 20 rfl rfl)
theorem dX6_mean_89 : decode cX6_mean 89 = .ok (.getfield 7, 3) := dk_180 0 7 (dk_at dksX6_mean_3 21 rfl rfl)
theorem dX6_mean_92 : decode cX6_mean 92 = .ok (.iload 4, 2) := dk_21 4 (dk_at dksX6_mean_4 0 rfl rfl)
theorem dX6_mean_94 : decode cX6_mean 94 = .ok (.iaload, 1) := dk_46 (dk_at dksX6_mean_4 2 rfl rfl)
theorem dX6_mean_95 : decode cX6_mean 95 = .ok (.iastore, 1) := dk_79 (dk_at dksX6_mean_4 3 rfl rfl)
theorem dX6_mean_96 : decode cX6_mean 96 = .ok (.iinc 4 1, 3) := dk_132 4 1 (dk_at dksX6_mean_4 4 rfl rfl)
theorem dX6_mean_99 : decode cX6_mean 99 = .ok (.goto (-29), 3) := dk_167 255 227 (dk_at dksX6_mean_4 7 rfl rfl)
theorem dX6_mean_102 : decode cX6_mean 102 = .ok (.lconst 0, 1) := dk_9 (dk_at dksX6_mean_4 10 rfl rfl)
theorem dX6_mean_103 : decode cX6_mean 103 = .ok (.lstore 4, 2) := dk_55 4 (dk_at dksX6_mean_4 11 rfl rfl)
theorem dX6_mean_105 : decode cX6_mean 105 = .ok (.iconst 0, 1) := dk_3 (dk_at dksX6_mean_4 13 rfl rfl)
theorem dX6_mean_106 : decode cX6_mean 106 = .ok (.istore 6, 2) := dk_54 6 (dk_at dksX6_mean_4 14 rfl rfl)
theorem dX6_mean_108 : decode cX6_mean 108 = .ok (.iload 6, 2) := dk_21 6 (dk_at dksX6_mean_4 16 rfl rfl)
theorem dX6_mean_110 : decode cX6_mean 110 = .ok (.iload_n 3, 1) := dk_29 (dk_at dksX6_mean_4 18 rfl rfl)
theorem dX6_mean_111 : decode cX6_mean 111 = .ok (.if_icmp .ge 69, 3) := dk_162 0 69 (dk_at dksX6_mean_4 19 rfl rfl)
theorem dX6_mean_114 : decode cX6_mean 114 = .ok (.aload_n 0, 1) := dk_42 (dk_at dksX6_mean_4 22 rfl rfl)
theorem dX6_mean_115 : decode cX6_mean 115 = .ok (.iload_n 2, 1) := dk_28 (dk_at dksX6_mean_4 23 rfl rfl)
theorem dX6_mean_116 : decode cX6_mean 116 = .ok (.iload 6, 2) := dk_21 6 (dk_at dksX6_mean_5 0 rfl rfl)
theorem dX6_mean_118 : decode cX6_mean 118 = .ok (.iadd, 1) := dk_96 (dk_at dksX6_mean_5 2 rfl rfl)
theorem dX6_mean_119 : decode cX6_mean 119 = .ok (.invokevirtual 452, 3) := dk_182 1 196 (dk_at dksX6_mean_5 3 rfl rfl)
theorem dX6_mean_122 : decode cX6_mean 122 = .ok (.lload 4, 2) := dk_22 4 (dk_at dksX6_mean_5 6 rfl rfl)
theorem dX6_mean_124 : decode cX6_mean 124 = .ok (.aload_n 0, 1) := dk_42 (dk_at dksX6_mean_5 8 rfl rfl)
theorem dX6_mean_125 : decode cX6_mean 125 = .ok (.getfield 7, 3) := dk_180 0 7 (dk_at dksX6_mean_5 9 rfl rfl)
theorem dX6_mean_128 : decode cX6_mean 128 = .ok (.iload_n 1, 1) := dk_27 (dk_at dksX6_mean_5 12 rfl rfl)
theorem dX6_mean_129 : decode cX6_mean 129 = .ok (.invokestatic 267, 3) := dk_184 1 11 (dk_at dksX6_mean_5 13 rfl rfl)
theorem dX6_mean_132 : decode cX6_mean 132 = .ok (.iconst 5, 1) := dk_8 (dk_at dksX6_mean_5 16 rfl rfl)
theorem dX6_mean_133 : decode cX6_mean 133 = .ok (.iadd, 1) := dk_96 (dk_at dksX6_mean_5 17 rfl rfl)
theorem dX6_mean_134 : decode cX6_mean 134 = .ok (.iaload, 1) := dk_46 (dk_at dksX6_mean_5 18 rfl rfl)
theorem dX6_mean_135 : decode cX6_mean 135 = .ok (.i2l, 1) := dk_133 (dk_at dksX6_mean_5 19 rfl rfl)
theorem dX6_mean_136 : decode cX6_mean 136 = .ok (.ladd, 1) := dk_97 (dk_at dksX6_mean_5 20 rfl rfl)
theorem dX6_mean_137 : decode cX6_mean 137 = .ok (.lstore 4, 2) := dk_55 4 (dk_at dksX6_mean_5 21 rfl rfl)
theorem dX6_mean_139 : decode cX6_mean 139 = .ok (.iconst 0, 1) := dk_3 (dk_at dksX6_mean_5 23 rfl rfl)
theorem dX6_mean_140 : decode cX6_mean 140 = .ok (.istore 7, 2) := dk_54 7 (dk_at dksX6_mean_6 0 rfl rfl)
theorem dX6_mean_142 : decode cX6_mean 142 = .ok (.iload 7, 2) := dk_21 7 (dk_at dksX6_mean_6 2 rfl rfl)
theorem dX6_mean_144 : decode cX6_mean 144 = .ok (.sipush 130, 3) := dk_17 0 130 (dk_at dksX6_mean_6 4 rfl rfl)
theorem dX6_mean_147 : decode cX6_mean 147 = .ok (.if_icmp .ge 27, 3) := dk_162 0 27 (dk_at dksX6_mean_6 7 rfl rfl)
theorem dX6_mean_150 : decode cX6_mean 150 = .ok (.aload_n 0, 1) := dk_42 (dk_at dksX6_mean_6 10 rfl rfl)
theorem dX6_mean_151 : decode cX6_mean 151 = .ok (.getfield 7, 3) := dk_180 0 7 (dk_at dksX6_mean_6 11 rfl rfl)
theorem dX6_mean_154 : decode cX6_mean 154 = .ok (.iload 7, 2) := dk_21 7 (dk_at dksX6_mean_6 14 rfl rfl)
theorem dX6_mean_156 : decode cX6_mean 156 = .ok (.aload_n 0, 1) := dk_42 (dk_at dksX6_mean_6 16 rfl rfl)
theorem dX6_mean_157 : decode cX6_mean 157 = .ok (.getfield 7, 3) := dk_180 0 7 (dk_at dksX6_mean_6 17 rfl rfl)
theorem dX6_mean_160 : decode cX6_mean 160 = .ok (.sipush 2500, 3) := dk_17 9 196 (dk_at dksX6_mean_6 20 rfl rfl)
theorem dX6_mean_163 : decode cX6_mean 163 = .ok (.iload 7, 2) := dk_21 7 (dk_at dksX6_mean_7 0 rfl rfl)
theorem dX6_mean_165 : decode cX6_mean 165 = .ok (.iadd, 1) := dk_96 (dk_at dksX6_mean_7 2 rfl rfl)
theorem dX6_mean_166 : decode cX6_mean 166 = .ok (.iaload, 1) := dk_46 (dk_at dksX6_mean_7 3 rfl rfl)
theorem dX6_mean_167 : decode cX6_mean 167 = .ok (.iastore, 1) := dk_79 (dk_at dksX6_mean_7 4 rfl rfl)
theorem dX6_mean_168 : decode cX6_mean 168 = .ok (.iinc 7 1, 3) := dk_132 7 1 (dk_at dksX6_mean_7 5 rfl rfl)
theorem dX6_mean_171 : decode cX6_mean 171 = .ok (.goto (-29), 3) := dk_167 255 227 (dk_at dksX6_mean_7 8 rfl rfl)
theorem dX6_mean_174 : decode cX6_mean 174 = .ok (.iinc 6 1, 3) := dk_132 6 1 (dk_at dksX6_mean_7 11 rfl rfl)
theorem dX6_mean_177 : decode cX6_mean 177 = .ok (.goto (-69), 3) := dk_167 255 187 (dk_at dksX6_mean_7 14 rfl rfl)
theorem dX6_mean_180 : decode cX6_mean 180 = .ok (.aload_n 0, 1) := dk_42 (dk_at dksX6_mean_7 17 rfl rfl)
theorem dX6_mean_181 : decode cX6_mean 181 = .ok (.lload 4, 2) := dk_22 4 (dk_at dksX6_mean_7 18 rfl rfl)
theorem dX6_mean_183 : decode cX6_mean 183 = .ok (.iload_n 3, 1) := dk_29 (dk_at dksX6_mean_7 20 rfl rfl)
theorem dX6_mean_184 : decode cX6_mean 184 = .ok (.i2l, 1) := dk_133 (dk_at dksX6_mean_7 21 rfl rfl)
theorem dX6_mean_185 : decode cX6_mean 185 = .ok (.invokevirtual 343, 3) := dk_182 1 87 (dk_at dksX6_mean_8 0 rfl rfl)
theorem dX6_mean_188 : decode cX6_mean 188 = .ok (.ireturn, 1) := dk_172 (dk_at dksX6_mean_8 3 rfl rfl)
abbrev cX6_mark : ByteArray := prog_16_method_153_code
def yX6_mark : MethodName := ⟨RX6, "mark", "()I"⟩
def dkwX6_mark_1 : List UInt8 := [42, 3, 42, 180, 1, 205, 182, 1, 208, 42, 42, 180, 1, 205, 182, 0, 79, 172]
abbrev dktX6_mark_1 : List UInt8 := dkwX6_mark_1 ++ []
def dkwX6_mark_0 : List UInt8 := [42, 180, 1, 205, 6, 160, 0, 9, 42, 7, 182, 0, 75, 172, 42, 89, 180, 1, 205, 4, 96, 181, 1, 205]
abbrev dktX6_mark_0 : List UInt8 := dkwX6_mark_0 ++ dktX6_mark_1
theorem dksX6_mark_0 : cX6_mark.data.toList.drop 0 = dktX6_mark_0 := by decide +kernel
theorem dksX6_mark_1 : cX6_mark.data.toList.drop 24 = dktX6_mark_1 := dk_seg dksX6_mark_0 24 rfl rfl
theorem dX6_mark_0 : decode cX6_mark 0 = .ok (.aload_n 0, 1) := dk_42 (dk_at dksX6_mark_0 0 rfl rfl)
theorem dX6_mark_1 : decode cX6_mark 1 = .ok (.getfield 461, 3) := dk_180 1 205 (dk_at dksX6_mark_0 1 rfl rfl)
theorem dX6_mark_4 : decode cX6_mark 4 = .ok (.iconst 3, 1) := dk_6 (dk_at dksX6_mark_0 4 rfl rfl)
theorem dX6_mark_5 : decode cX6_mark 5 = .ok (.if_icmp .ne 9, 3) := dk_160 0 9 (dk_at dksX6_mark_0 5 rfl rfl)
theorem dX6_mark_8 : decode cX6_mark 8 = .ok (.aload_n 0, 1) := dk_42 (dk_at dksX6_mark_0 8 rfl rfl)
theorem dX6_mark_9 : decode cX6_mark 9 = .ok (.iconst 4, 1) := dk_7 (dk_at dksX6_mark_0 9 rfl rfl)
theorem dX6_mark_10 : decode cX6_mark 10 = .ok (.invokevirtual 75, 3) := dk_182 0 75 (dk_at dksX6_mark_0 10 rfl rfl)
theorem dX6_mark_13 : decode cX6_mark 13 = .ok (.ireturn, 1) := dk_172 (dk_at dksX6_mark_0 13 rfl rfl)
theorem dX6_mark_14 : decode cX6_mark 14 = .ok (.aload_n 0, 1) := dk_42 (dk_at dksX6_mark_0 14 rfl rfl)
theorem dX6_mark_15 : decode cX6_mark 15 = .ok (.dup, 1) := dk_89 (dk_at dksX6_mark_0 15 rfl rfl)
theorem dX6_mark_16 : decode cX6_mark 16 = .ok (.getfield 461, 3) := dk_180 1 205 (dk_at dksX6_mark_0 16 rfl rfl)
theorem dX6_mark_19 : decode cX6_mark 19 = .ok (.iconst 1, 1) := dk_4 (dk_at dksX6_mark_0 19 rfl rfl)
theorem dX6_mark_20 : decode cX6_mark 20 = .ok (.iadd, 1) := dk_96 (dk_at dksX6_mark_0 20 rfl rfl)
theorem dX6_mark_21 : decode cX6_mark 21 = .ok (.putfield 461, 3) := dk_181 1 205 (dk_at dksX6_mark_0 21 rfl rfl)
theorem dX6_mark_24 : decode cX6_mark 24 = .ok (.aload_n 0, 1) := dk_42 (dk_at dksX6_mark_1 0 rfl rfl)
theorem dX6_mark_25 : decode cX6_mark 25 = .ok (.iconst 0, 1) := dk_3 (dk_at dksX6_mark_1 1 rfl rfl)
theorem dX6_mark_26 : decode cX6_mark 26 = .ok (.aload_n 0, 1) := dk_42 (dk_at dksX6_mark_1 2 rfl rfl)
theorem dX6_mark_27 : decode cX6_mark 27 = .ok (.getfield 461, 3) := dk_180 1 205 (dk_at dksX6_mark_1 3 rfl rfl)
theorem dX6_mark_30 : decode cX6_mark 30 = .ok (.invokevirtual 464, 3) := dk_182 1 208 (dk_at dksX6_mark_1 6 rfl rfl)
theorem dX6_mark_33 : decode cX6_mark 33 = .ok (.aload_n 0, 1) := dk_42 (dk_at dksX6_mark_1 9 rfl rfl)
theorem dX6_mark_34 : decode cX6_mark 34 = .ok (.aload_n 0, 1) := dk_42 (dk_at dksX6_mark_1 10 rfl rfl)
theorem dX6_mark_35 : decode cX6_mark 35 = .ok (.getfield 461, 3) := dk_180 1 205 (dk_at dksX6_mark_1 11 rfl rfl)
theorem dX6_mark_38 : decode cX6_mark 38 = .ok (.invokevirtual 79, 3) := dk_182 0 79 (dk_at dksX6_mark_1 14 rfl rfl)
theorem dX6_mark_41 : decode cX6_mark 41 = .ok (.ireturn, 1) := dk_172 (dk_at dksX6_mark_1 17 rfl rfl)
abbrev cX6_copies : ByteArray := prog_16_method_152_code
def yX6_copies : MethodName := ⟨RX6, "copies", "(II)V"⟩
def dkwX6_copies_3 : List UInt8 := [167, 255, 225, 177]
abbrev dktX6_copies_3 : List UInt8 := dkwX6_copies_3 ++ []
def dkwX6_copies_2 : List UInt8 := [180, 0, 13, 16, 6, 28, 104, 29, 96, 42, 180, 0, 13, 16, 6, 27, 104, 29, 96, 47, 80, 132, 3, 1]
abbrev dktX6_copies_2 : List UInt8 := dkwX6_copies_2 ++ dktX6_copies_3
def dkwX6_copies_1 : List UInt8 := [17, 1, 244, 27, 104, 29, 96, 46, 79, 132, 3, 1, 167, 255, 222, 3, 62, 29, 16, 6, 162, 0, 31, 42]
abbrev dktX6_copies_1 : List UInt8 := dkwX6_copies_1 ++ dktX6_copies_2
def dkwX6_copies_0 : List UInt8 := [3, 62, 29, 17, 1, 244, 162, 0, 33, 42, 180, 0, 7, 17, 1, 244, 28, 104, 29, 96, 42, 180, 0, 7]
abbrev dktX6_copies_0 : List UInt8 := dkwX6_copies_0 ++ dktX6_copies_1
theorem dksX6_copies_0 : cX6_copies.data.toList.drop 0 = dktX6_copies_0 := by decide +kernel
theorem dksX6_copies_1 : cX6_copies.data.toList.drop 24 = dktX6_copies_1 := dk_seg dksX6_copies_0 24 rfl rfl
theorem dksX6_copies_2 : cX6_copies.data.toList.drop 48 = dktX6_copies_2 := dk_seg dksX6_copies_1 24 rfl rfl
theorem dksX6_copies_3 : cX6_copies.data.toList.drop 72 = dktX6_copies_3 := dk_seg dksX6_copies_2 24 rfl rfl
theorem dX6_copies_0 : decode cX6_copies 0 = .ok (.iconst 0, 1) := dk_3 (dk_at dksX6_copies_0 0 rfl rfl)
theorem dX6_copies_1 : decode cX6_copies 1 = .ok (.istore_n 3, 1) := dk_62 (dk_at dksX6_copies_0 1 rfl rfl)
theorem dX6_copies_2 : decode cX6_copies 2 = .ok (.iload_n 3, 1) := dk_29 (dk_at dksX6_copies_0 2 rfl rfl)
theorem dX6_copies_3 : decode cX6_copies 3 = .ok (.sipush 500, 3) := dk_17 1 244 (dk_at dksX6_copies_0 3 rfl rfl)
theorem dX6_copies_6 : decode cX6_copies 6 = .ok (.if_icmp .ge 33, 3) := dk_162 0 33 (dk_at dksX6_copies_0 6 rfl rfl)
theorem dX6_copies_9 : decode cX6_copies 9 = .ok (.aload_n 0, 1) := dk_42 (dk_at dksX6_copies_0 9 rfl rfl)
theorem dX6_copies_10 : decode cX6_copies 10 = .ok (.getfield 7, 3) := dk_180 0 7 (dk_at dksX6_copies_0 10 rfl rfl)
theorem dX6_copies_13 : decode cX6_copies 13 = .ok (.sipush 500, 3) := dk_17 1 244 (dk_at dksX6_copies_0 13 rfl rfl)
theorem dX6_copies_16 : decode cX6_copies 16 = .ok (.iload_n 2, 1) := dk_28 (dk_at dksX6_copies_0 16 rfl rfl)
theorem dX6_copies_17 : decode cX6_copies 17 = .ok (.imul, 1) := dk_104 (dk_at dksX6_copies_0 17 rfl rfl)
theorem dX6_copies_18 : decode cX6_copies 18 = .ok (.iload_n 3, 1) := dk_29 (dk_at dksX6_copies_0 18 rfl rfl)
theorem dX6_copies_19 : decode cX6_copies 19 = .ok (.iadd, 1) := dk_96 (dk_at dksX6_copies_0 19 rfl rfl)
theorem dX6_copies_20 : decode cX6_copies 20 = .ok (.aload_n 0, 1) := dk_42 (dk_at dksX6_copies_0 20 rfl rfl)
theorem dX6_copies_21 : decode cX6_copies 21 = .ok (.getfield 7, 3) := dk_180 0 7 (dk_at dksX6_copies_0 21 rfl rfl)
theorem dX6_copies_24 : decode cX6_copies 24 = .ok (.sipush 500, 3) := dk_17 1 244 (dk_at dksX6_copies_1 0 rfl rfl)
theorem dX6_copies_27 : decode cX6_copies 27 = .ok (.iload_n 1, 1) := dk_27 (dk_at dksX6_copies_1 3 rfl rfl)
theorem dX6_copies_28 : decode cX6_copies 28 = .ok (.imul, 1) := dk_104 (dk_at dksX6_copies_1 4 rfl rfl)
theorem dX6_copies_29 : decode cX6_copies 29 = .ok (.iload_n 3, 1) := dk_29 (dk_at dksX6_copies_1 5 rfl rfl)
theorem dX6_copies_30 : decode cX6_copies 30 = .ok (.iadd, 1) := dk_96 (dk_at dksX6_copies_1 6 rfl rfl)
theorem dX6_copies_31 : decode cX6_copies 31 = .ok (.iaload, 1) := dk_46 (dk_at dksX6_copies_1 7 rfl rfl)
theorem dX6_copies_32 : decode cX6_copies 32 = .ok (.iastore, 1) := dk_79 (dk_at dksX6_copies_1 8 rfl rfl)
theorem dX6_copies_33 : decode cX6_copies 33 = .ok (.iinc 3 1, 3) := dk_132 3 1 (dk_at dksX6_copies_1 9 rfl rfl)
theorem dX6_copies_36 : decode cX6_copies 36 = .ok (.goto (-34), 3) := dk_167 255 222 (dk_at dksX6_copies_1 12 rfl rfl)
theorem dX6_copies_39 : decode cX6_copies 39 = .ok (.iconst 0, 1) := dk_3 (dk_at dksX6_copies_1 15 rfl rfl)
theorem dX6_copies_40 : decode cX6_copies 40 = .ok (.istore_n 3, 1) := dk_62 (dk_at dksX6_copies_1 16 rfl rfl)
theorem dX6_copies_41 : decode cX6_copies 41 = .ok (.iload_n 3, 1) := dk_29 (dk_at dksX6_copies_1 17 rfl rfl)
theorem dX6_copies_42 : decode cX6_copies 42 = .ok (.bipush 6, 2) := dk_16 6 (dk_at dksX6_copies_1 18 rfl rfl)
theorem dX6_copies_44 : decode cX6_copies 44 = .ok (.if_icmp .ge 31, 3) := dk_162 0 31 (dk_at dksX6_copies_1 20 rfl rfl)
theorem dX6_copies_47 : decode cX6_copies 47 = .ok (.aload_n 0, 1) := dk_42 (dk_at dksX6_copies_1 23 rfl rfl)
theorem dX6_copies_48 : decode cX6_copies 48 = .ok (.getfield 13, 3) := dk_180 0 13 (dk_at dksX6_copies_2 0 rfl rfl)
theorem dX6_copies_51 : decode cX6_copies 51 = .ok (.bipush 6, 2) := dk_16 6 (dk_at dksX6_copies_2 3 rfl rfl)
theorem dX6_copies_53 : decode cX6_copies 53 = .ok (.iload_n 2, 1) := dk_28 (dk_at dksX6_copies_2 5 rfl rfl)
theorem dX6_copies_54 : decode cX6_copies 54 = .ok (.imul, 1) := dk_104 (dk_at dksX6_copies_2 6 rfl rfl)
theorem dX6_copies_55 : decode cX6_copies 55 = .ok (.iload_n 3, 1) := dk_29 (dk_at dksX6_copies_2 7 rfl rfl)
theorem dX6_copies_56 : decode cX6_copies 56 = .ok (.iadd, 1) := dk_96 (dk_at dksX6_copies_2 8 rfl rfl)
theorem dX6_copies_57 : decode cX6_copies 57 = .ok (.aload_n 0, 1) := dk_42 (dk_at dksX6_copies_2 9 rfl rfl)
theorem dX6_copies_58 : decode cX6_copies 58 = .ok (.getfield 13, 3) := dk_180 0 13 (dk_at dksX6_copies_2 10 rfl rfl)
theorem dX6_copies_61 : decode cX6_copies 61 = .ok (.bipush 6, 2) := dk_16 6 (dk_at dksX6_copies_2 13 rfl rfl)
theorem dX6_copies_63 : decode cX6_copies 63 = .ok (.iload_n 1, 1) := dk_27 (dk_at dksX6_copies_2 15 rfl rfl)
theorem dX6_copies_64 : decode cX6_copies 64 = .ok (.imul, 1) := dk_104 (dk_at dksX6_copies_2 16 rfl rfl)
theorem dX6_copies_65 : decode cX6_copies 65 = .ok (.iload_n 3, 1) := dk_29 (dk_at dksX6_copies_2 17 rfl rfl)
theorem dX6_copies_66 : decode cX6_copies 66 = .ok (.iadd, 1) := dk_96 (dk_at dksX6_copies_2 18 rfl rfl)
theorem dX6_copies_67 : decode cX6_copies 67 = .ok (.laload, 1) := dk_47 (dk_at dksX6_copies_2 19 rfl rfl)
theorem dX6_copies_68 : decode cX6_copies 68 = .ok (.lastore, 1) := dk_80 (dk_at dksX6_copies_2 20 rfl rfl)
theorem dX6_copies_69 : decode cX6_copies 69 = .ok (.iinc 3 1, 3) := dk_132 3 1 (dk_at dksX6_copies_2 21 rfl rfl)
theorem dX6_copies_72 : decode cX6_copies 72 = .ok (.goto (-31), 3) := dk_167 255 225 (dk_at dksX6_copies_3 0 rfl rfl)
theorem dX6_copies_75 : decode cX6_copies 75 = .ok (.return_, 1) := dk_177 (dk_at dksX6_copies_3 3 rfl rfl)
abbrev cX6_back : ByteArray := prog_16_method_154_code
def yX6_back : MethodName := ⟨RX6, "back", "()I"⟩
def dkwX6_back_1 : List UInt8 := [89, 180, 1, 205, 4, 100, 181, 1, 205, 42, 42, 180, 1, 205, 182, 0, 79, 172]
abbrev dktX6_back_1 : List UInt8 := dkwX6_back_1 ++ []
def dkwX6_back_0 : List UInt8 := [42, 180, 1, 205, 154, 0, 10, 42, 16, 6, 182, 0, 75, 172, 42, 42, 180, 1, 205, 3, 182, 1, 208, 42]
abbrev dktX6_back_0 : List UInt8 := dkwX6_back_0 ++ dktX6_back_1
theorem dksX6_back_0 : cX6_back.data.toList.drop 0 = dktX6_back_0 := by decide +kernel
theorem dksX6_back_1 : cX6_back.data.toList.drop 24 = dktX6_back_1 := dk_seg dksX6_back_0 24 rfl rfl
theorem dX6_back_0 : decode cX6_back 0 = .ok (.aload_n 0, 1) := dk_42 (dk_at dksX6_back_0 0 rfl rfl)
theorem dX6_back_1 : decode cX6_back 1 = .ok (.getfield 461, 3) := dk_180 1 205 (dk_at dksX6_back_0 1 rfl rfl)
theorem dX6_back_4 : decode cX6_back 4 = .ok (.ifCond .ne 10, 3) := dk_154 0 10 (dk_at dksX6_back_0 4 rfl rfl)
theorem dX6_back_7 : decode cX6_back 7 = .ok (.aload_n 0, 1) := dk_42 (dk_at dksX6_back_0 7 rfl rfl)
theorem dX6_back_8 : decode cX6_back 8 = .ok (.bipush 6, 2) := dk_16 6 (dk_at dksX6_back_0 8 rfl rfl)
theorem dX6_back_10 : decode cX6_back 10 = .ok (.invokevirtual 75, 3) := dk_182 0 75 (dk_at dksX6_back_0 10 rfl rfl)
theorem dX6_back_13 : decode cX6_back 13 = .ok (.ireturn, 1) := dk_172 (dk_at dksX6_back_0 13 rfl rfl)
theorem dX6_back_14 : decode cX6_back 14 = .ok (.aload_n 0, 1) := dk_42 (dk_at dksX6_back_0 14 rfl rfl)
theorem dX6_back_15 : decode cX6_back 15 = .ok (.aload_n 0, 1) := dk_42 (dk_at dksX6_back_0 15 rfl rfl)
theorem dX6_back_16 : decode cX6_back 16 = .ok (.getfield 461, 3) := dk_180 1 205 (dk_at dksX6_back_0 16 rfl rfl)
theorem dX6_back_19 : decode cX6_back 19 = .ok (.iconst 0, 1) := dk_3 (dk_at dksX6_back_0 19 rfl rfl)
theorem dX6_back_20 : decode cX6_back 20 = .ok (.invokevirtual 464, 3) := dk_182 1 208 (dk_at dksX6_back_0 20 rfl rfl)
theorem dX6_back_23 : decode cX6_back 23 = .ok (.aload_n 0, 1) := dk_42 (dk_at dksX6_back_0 23 rfl rfl)
theorem dX6_back_24 : decode cX6_back 24 = .ok (.dup, 1) := dk_89 (dk_at dksX6_back_1 0 rfl rfl)
theorem dX6_back_25 : decode cX6_back 25 = .ok (.getfield 461, 3) := dk_180 1 205 (dk_at dksX6_back_1 1 rfl rfl)
theorem dX6_back_28 : decode cX6_back 28 = .ok (.iconst 1, 1) := dk_4 (dk_at dksX6_back_1 4 rfl rfl)
theorem dX6_back_29 : decode cX6_back 29 = .ok (.isub, 1) := dk_100 (dk_at dksX6_back_1 5 rfl rfl)
theorem dX6_back_30 : decode cX6_back 30 = .ok (.putfield 461, 3) := dk_181 1 205 (dk_at dksX6_back_1 6 rfl rfl)
theorem dX6_back_33 : decode cX6_back 33 = .ok (.aload_n 0, 1) := dk_42 (dk_at dksX6_back_1 9 rfl rfl)
theorem dX6_back_34 : decode cX6_back 34 = .ok (.aload_n 0, 1) := dk_42 (dk_at dksX6_back_1 10 rfl rfl)
theorem dX6_back_35 : decode cX6_back 35 = .ok (.getfield 461, 3) := dk_180 1 205 (dk_at dksX6_back_1 11 rfl rfl)
theorem dX6_back_38 : decode cX6_back 38 = .ok (.invokevirtual 79, 3) := dk_182 0 79 (dk_at dksX6_back_1 14 rfl rfl)
theorem dX6_back_41 : decode cX6_back 41 = .ok (.ireturn, 1) := dk_172 (dk_at dksX6_back_1 17 rfl rfl)
theorem q152 : (Jvm.Cond.initialized "LetMeModel") ∈ lw_all := lw_g (lw_at lw_m1 9 rfl) rfl
theorem q1529 : (Jvm.Cond.instantiable "LetMeModel" (35 : Nat)) ∈ lw_all := lw_g (lw_at lw_m6 186 rfl) rfl
theorem q1531 : (Jvm.Cond.instanceMethod ({ cls := "LetMeModel", name := "<init>", desc := "()V" } : Jvm.MethodName)) ∈ lw_all := lw_g (lw_at lw_m6 188 rfl) rfl
theorem q1532 : (Jvm.Cond.code ({ cls := "LetMeModel", name := "<init>", desc := "()V" } : Jvm.MethodName) prog_16_method_1_code (1 : Nat) (Option.none : Option Jvm.ClassFile.FieldType)) ∈ lw_all := lw_g (lw_at lw_m6 189 rfl) rfl
theorem q1533 : (Jvm.Cond.methodLink "LetMeModel" (1 : Nat) ({ cls := "java/lang/Object", name := "<init>", desc := "()V" } : Jvm.MethodName)) ∈ lw_all := lw_g (lw_at lw_m6 190 rfl) rfl
theorem q1534 : (Jvm.Cond.methodLink "LetMeModel" (65 : Nat) ({ cls := "LetMeModel", name := "plain", desc := "(I)V" } : Jvm.MethodName)) ∈ lw_all := lw_g (lw_at lw_m6 191 rfl) rfl
theorem q1535 : (Jvm.Cond.privateMethod ({ cls := "LetMeModel", name := "plain", desc := "(I)V" } : Jvm.MethodName)) ∈ lw_tbl := lw_at lw_m6 192 rfl
theorem q1536 : (Jvm.Cond.instanceMethod ({ cls := "LetMeModel", name := "plain", desc := "(I)V" } : Jvm.MethodName)) ∈ lw_all := lw_g (lw_at lw_m6 193 rfl) rfl
theorem q1537 : (Jvm.Cond.code ({ cls := "LetMeModel", name := "plain", desc := "(I)V" } : Jvm.MethodName) prog_16_method_2_code (3 : Nat) (Option.none : Option Jvm.ClassFile.FieldType)) ∈ lw_all := lw_g (lw_at lw_m6 194 rfl) rfl
theorem q1538 : (Jvm.Cond.fieldLink "LetMeModel" (7 : Nat) "LetMeModel" "at" "[I") ∈ lw_all := lw_g (lw_at lw_m6 195 rfl) rfl
theorem q1539 : (Jvm.Cond.fieldLink "LetMeModel" (13 : Nat) "LetMeModel" "names" "[J") ∈ lw_all := lw_g (lw_at lw_m6 196 rfl) rfl
theorem q1540 : (Jvm.Cond.fieldLink "LetMeModel" (69 : Nat) "LetMeModel" "status" "I") ∈ lw_all := lw_g (lw_at lw_m6 197 rfl) rfl
theorem q1541 : (Jvm.Cond.fieldLink "LetMeModel" (72 : Nat) "LetMeModel" "top" "J") ∈ lw_all := lw_g (lw_at lw_m6 198 rfl) rfl
theorem q1542 : (Jvm.Cond.fieldLink "LetMeModel" (17 : Nat) "LetMeModel" "bottom" "J") ∈ lw_all := lw_g (lw_at lw_m6 199 rfl) rfl
theorem q1543 : (Jvm.Cond.fieldLink "LetMeModel" (21 : Nat) "LetMeModel" "sort" "[I") ∈ lw_all := lw_g (lw_at lw_m6 200 rfl) rfl
theorem q1544 : (Jvm.Cond.fieldLink "LetMeModel" (24 : Nat) "LetMeModel" "trayMany" "[I") ∈ lw_all := lw_g (lw_at lw_m6 201 rfl) rfl
theorem q1545 : (Jvm.Cond.fieldLink "LetMeModel" (27 : Nat) "LetMeModel" "trays" "[J") ∈ lw_all := lw_g (lw_at lw_m6 202 rfl) rfl
theorem q1546 : (Jvm.Cond.fieldLink "LetMeModel" (30 : Nat) "LetMeModel" "tape" "[B") ∈ lw_all := lw_g (lw_at lw_m6 203 rfl) rfl
theorem q1547 : (Jvm.Cond.fieldLink "LetMeModel" (34 : Nat) "LetMeModel" "text" "[B") ∈ lw_all := lw_g (lw_at lw_m6 204 rfl) rfl
theorem q1548 : (Jvm.Cond.fieldLink "LetMeModel" (99 : Nat) "LetMeModel" "taped" "I") ∈ lw_all := lw_g (lw_at lw_m6 205 rfl) rfl
theorem q1549 : (Jvm.Cond.fieldLink "LetMeModel" (105 : Nat) "LetMeModel" "size" "I") ∈ lw_all := lw_g (lw_at lw_m6 206 rfl) rfl
theorem q1550 : (Jvm.Cond.fieldLink "LetMeModel" (120 : Nat) "LetMeModel" "token" "I") ∈ lw_all := lw_g (lw_at lw_m6 207 rfl) rfl
theorem q1551 : (Jvm.Cond.fieldLink "LetMeModel" (114 : Nat) "LetMeModel" "from" "I") ∈ lw_all := lw_g (lw_at lw_m6 208 rfl) rfl
theorem q1552 : (Jvm.Cond.fieldLink "LetMeModel" (108 : Nat) "LetMeModel" "end" "I") ∈ lw_all := lw_g (lw_at lw_m6 209 rfl) rfl
theorem q1553 : (Jvm.Cond.fieldLink "LetMeModel" (117 : Nat) "LetMeModel" "value" "I") ∈ lw_all := lw_g (lw_at lw_m6 210 rfl) rfl
theorem q1554 : (Jvm.Cond.fieldLink "LetMeModel" (37 : Nat) "LetMeModel" "faultKind" "I") ∈ lw_all := lw_g (lw_at lw_m6 211 rfl) rfl
theorem q1555 : (Jvm.Cond.fieldLink "LetMeModel" (41 : Nat) "LetMeModel" "faultPlace" "I") ∈ lw_all := lw_g (lw_at lw_m6 212 rfl) rfl
theorem q1556 : (Jvm.Cond.fieldLink "LetMeModel" (145 : Nat) "LetMeModel" "faults" "I") ∈ lw_all := lw_g (lw_at lw_m6 213 rfl) rfl
theorem q1557 : (Jvm.Cond.fieldLink "LetMeModel" (148 : Nat) "LetMeModel" "seen" "I") ∈ lw_all := lw_g (lw_at lw_m6 214 rfl) rfl
theorem q1558 : (Jvm.Cond.fieldLink "LetMeModel" (195 : Nat) "LetMeModel" "told0" "I") ∈ lw_all := lw_g (lw_at lw_m6 215 rfl) rfl
theorem q1559 : (Jvm.Cond.fieldLink "LetMeModel" (44 : Nat) "LetMeModel" "opened" "[I") ∈ lw_all := lw_g (lw_at lw_m6 216 rfl) rfl
theorem q1560 : (Jvm.Cond.fieldLink "LetMeModel" (236 : Nat) "LetMeModel" "depth" "I") ∈ lw_all := lw_g (lw_at lw_m6 217 rfl) rfl
theorem q1561 : (Jvm.Cond.fieldLink "LetMeModel" (239 : Nat) "LetMeModel" "counted" "I") ∈ lw_all := lw_g (lw_at lw_m6 218 rfl) rfl
theorem q1562 : (Jvm.Cond.fieldLink "LetMeModel" (47 : Nat) "LetMeModel" "parts" "[I") ∈ lw_all := lw_g (lw_at lw_m6 219 rfl) rfl
theorem q1563 : (Jvm.Cond.fieldLink "LetMeModel" (50 : Nat) "LetMeModel" "left" "[I") ∈ lw_all := lw_g (lw_at lw_m6 220 rfl) rfl
theorem q1564 : (Jvm.Cond.fieldLink "LetMeModel" (53 : Nat) "LetMeModel" "fresh" "[I") ∈ lw_all := lw_g (lw_at lw_m6 221 rfl) rfl
theorem q1565 : (Jvm.Cond.fieldLink "LetMeModel" (402 : Nat) "LetMeModel" "given" "I") ∈ lw_all := lw_g (lw_at lw_m6 222 rfl) rfl
theorem q1566 : (Jvm.Cond.fieldLink "LetMeModel" (424 : Nat) "LetMeModel" "drawn" "I") ∈ lw_all := lw_g (lw_at lw_m6 223 rfl) rfl
theorem q1567 : (Jvm.Cond.fieldLink "LetMeModel" (440 : Nat) "LetMeModel" "ranSteps" "I") ∈ lw_all := lw_g (lw_at lw_m6 224 rfl) rfl
theorem q1568 : (Jvm.Cond.fieldLink "LetMeModel" (56 : Nat) "LetMeModel" "loops" "[I") ∈ lw_all := lw_g (lw_at lw_m6 225 rfl) rfl
theorem q1569 : (Jvm.Cond.fieldLink "LetMeModel" (59 : Nat) "LetMeModel" "ran" "[I") ∈ lw_all := lw_g (lw_at lw_m6 226 rfl) rfl
theorem q1570 : (Jvm.Cond.fieldLink "LetMeModel" (62 : Nat) "LetMeModel" "told1" "[I") ∈ lw_all := lw_g (lw_at lw_m6 227 rfl) rfl
theorem q1571 : (Jvm.Cond.fieldLink "LetMeModel" (455 : Nat) "LetMeModel" "isTold" "Z") ∈ lw_all := lw_g (lw_at lw_m6 228 rfl) rfl
theorem q1572 : (Jvm.Cond.fieldLink "LetMeModel" (461 : Nat) "LetMeModel" "marks" "I") ∈ lw_all := lw_g (lw_at lw_m6 229 rfl) rfl
theorem q1573 : (Jvm.Cond.laysFinal "LetMeModel" "LetMeModel" "at" "[I") ∈ lw_all := lw_g (lw_at lw_m6 230 rfl) rfl
theorem q1574 : (Jvm.Cond.soleField "LetMeModel" "at") ∈ lw_all := lw_g (lw_at lw_m6 231 rfl) rfl
theorem q1575 : (Jvm.Cond.laysFinal "LetMeModel" "LetMeModel" "names" "[J") ∈ lw_all := lw_g (lw_at lw_m6 232 rfl) rfl
theorem q1576 : (Jvm.Cond.soleField "LetMeModel" "names") ∈ lw_all := lw_g (lw_at lw_m6 233 rfl) rfl
theorem q1577 : (Jvm.Cond.lays "LetMeModel" "LetMeModel" "status" "I") ∈ lw_all := lw_g (lw_at lw_m6 234 rfl) rfl
theorem q1578 : (Jvm.Cond.soleField "LetMeModel" "status") ∈ lw_all := lw_g (lw_at lw_m6 235 rfl) rfl
theorem q1579 : (Jvm.Cond.lays "LetMeModel" "LetMeModel" "top" "J") ∈ lw_all := lw_g (lw_at lw_m6 236 rfl) rfl
theorem q1580 : (Jvm.Cond.soleField "LetMeModel" "top") ∈ lw_all := lw_g (lw_at lw_m6 237 rfl) rfl
theorem q1581 : (Jvm.Cond.lays "LetMeModel" "LetMeModel" "bottom" "J") ∈ lw_all := lw_g (lw_at lw_m6 238 rfl) rfl
theorem q1582 : (Jvm.Cond.soleField "LetMeModel" "bottom") ∈ lw_all := lw_g (lw_at lw_m6 239 rfl) rfl
theorem q1583 : (Jvm.Cond.laysFinal "LetMeModel" "LetMeModel" "sort" "[I") ∈ lw_all := lw_g (lw_at lw_m7 0 rfl) rfl
theorem q1584 : (Jvm.Cond.soleField "LetMeModel" "sort") ∈ lw_all := lw_g (lw_at lw_m7 1 rfl) rfl
theorem q1585 : (Jvm.Cond.laysFinal "LetMeModel" "LetMeModel" "trayMany" "[I") ∈ lw_all := lw_g (lw_at lw_m7 2 rfl) rfl
theorem q1586 : (Jvm.Cond.soleField "LetMeModel" "trayMany") ∈ lw_all := lw_g (lw_at lw_m7 3 rfl) rfl
theorem q1587 : (Jvm.Cond.laysFinal "LetMeModel" "LetMeModel" "trays" "[J") ∈ lw_all := lw_g (lw_at lw_m7 4 rfl) rfl
theorem q1588 : (Jvm.Cond.soleField "LetMeModel" "trays") ∈ lw_all := lw_g (lw_at lw_m7 5 rfl) rfl
theorem q1589 : (Jvm.Cond.laysFinal "LetMeModel" "LetMeModel" "tape" "[B") ∈ lw_all := lw_g (lw_at lw_m7 6 rfl) rfl
theorem q1590 : (Jvm.Cond.soleField "LetMeModel" "tape") ∈ lw_all := lw_g (lw_at lw_m7 7 rfl) rfl
theorem q1591 : (Jvm.Cond.laysFinal "LetMeModel" "LetMeModel" "text" "[B") ∈ lw_all := lw_g (lw_at lw_m7 8 rfl) rfl
theorem q1592 : (Jvm.Cond.soleField "LetMeModel" "text") ∈ lw_all := lw_g (lw_at lw_m7 9 rfl) rfl
theorem q1593 : (Jvm.Cond.lays "LetMeModel" "LetMeModel" "taped" "I") ∈ lw_all := lw_g (lw_at lw_m7 10 rfl) rfl
theorem q1594 : (Jvm.Cond.soleField "LetMeModel" "taped") ∈ lw_all := lw_g (lw_at lw_m7 11 rfl) rfl
theorem q1595 : (Jvm.Cond.lays "LetMeModel" "LetMeModel" "size" "I") ∈ lw_all := lw_g (lw_at lw_m7 12 rfl) rfl
theorem q1596 : (Jvm.Cond.soleField "LetMeModel" "size") ∈ lw_all := lw_g (lw_at lw_m7 13 rfl) rfl
theorem q1597 : (Jvm.Cond.lays "LetMeModel" "LetMeModel" "token" "I") ∈ lw_all := lw_g (lw_at lw_m7 14 rfl) rfl
theorem q1598 : (Jvm.Cond.soleField "LetMeModel" "token") ∈ lw_all := lw_g (lw_at lw_m7 15 rfl) rfl
theorem q1599 : (Jvm.Cond.lays "LetMeModel" "LetMeModel" "from" "I") ∈ lw_all := lw_g (lw_at lw_m7 16 rfl) rfl
theorem q1600 : (Jvm.Cond.soleField "LetMeModel" "from") ∈ lw_all := lw_g (lw_at lw_m7 17 rfl) rfl
theorem q1601 : (Jvm.Cond.lays "LetMeModel" "LetMeModel" "end" "I") ∈ lw_all := lw_g (lw_at lw_m7 18 rfl) rfl
theorem q1602 : (Jvm.Cond.soleField "LetMeModel" "end") ∈ lw_all := lw_g (lw_at lw_m7 19 rfl) rfl
theorem q1603 : (Jvm.Cond.lays "LetMeModel" "LetMeModel" "value" "I") ∈ lw_all := lw_g (lw_at lw_m7 20 rfl) rfl
theorem q1604 : (Jvm.Cond.soleField "LetMeModel" "value") ∈ lw_all := lw_g (lw_at lw_m7 21 rfl) rfl
theorem q1605 : (Jvm.Cond.lays "LetMeModel" "LetMeModel" "faultKind" "I") ∈ lw_all := lw_g (lw_at lw_m7 22 rfl) rfl
theorem q1606 : (Jvm.Cond.soleField "LetMeModel" "faultKind") ∈ lw_all := lw_g (lw_at lw_m7 23 rfl) rfl
theorem q1607 : (Jvm.Cond.lays "LetMeModel" "LetMeModel" "faultPlace" "I") ∈ lw_all := lw_g (lw_at lw_m7 24 rfl) rfl
theorem q1608 : (Jvm.Cond.soleField "LetMeModel" "faultPlace") ∈ lw_all := lw_g (lw_at lw_m7 25 rfl) rfl
theorem q1609 : (Jvm.Cond.lays "LetMeModel" "LetMeModel" "faults" "I") ∈ lw_all := lw_g (lw_at lw_m7 26 rfl) rfl
theorem q1610 : (Jvm.Cond.soleField "LetMeModel" "faults") ∈ lw_all := lw_g (lw_at lw_m7 27 rfl) rfl
theorem q1611 : (Jvm.Cond.lays "LetMeModel" "LetMeModel" "seen" "I") ∈ lw_all := lw_g (lw_at lw_m7 28 rfl) rfl
theorem q1612 : (Jvm.Cond.soleField "LetMeModel" "seen") ∈ lw_all := lw_g (lw_at lw_m7 29 rfl) rfl
theorem q1613 : (Jvm.Cond.lays "LetMeModel" "LetMeModel" "told0" "I") ∈ lw_all := lw_g (lw_at lw_m7 30 rfl) rfl
theorem q1614 : (Jvm.Cond.soleField "LetMeModel" "told0") ∈ lw_all := lw_g (lw_at lw_m7 31 rfl) rfl
theorem q1615 : (Jvm.Cond.laysFinal "LetMeModel" "LetMeModel" "opened" "[I") ∈ lw_all := lw_g (lw_at lw_m7 32 rfl) rfl
theorem q1616 : (Jvm.Cond.soleField "LetMeModel" "opened") ∈ lw_all := lw_g (lw_at lw_m7 33 rfl) rfl
theorem q1617 : (Jvm.Cond.lays "LetMeModel" "LetMeModel" "depth" "I") ∈ lw_all := lw_g (lw_at lw_m7 34 rfl) rfl
theorem q1618 : (Jvm.Cond.soleField "LetMeModel" "depth") ∈ lw_all := lw_g (lw_at lw_m7 35 rfl) rfl
theorem q1619 : (Jvm.Cond.lays "LetMeModel" "LetMeModel" "counted" "I") ∈ lw_all := lw_g (lw_at lw_m7 36 rfl) rfl
theorem q1620 : (Jvm.Cond.soleField "LetMeModel" "counted") ∈ lw_all := lw_g (lw_at lw_m7 37 rfl) rfl
theorem q1621 : (Jvm.Cond.laysFinal "LetMeModel" "LetMeModel" "parts" "[I") ∈ lw_all := lw_g (lw_at lw_m7 38 rfl) rfl
theorem q1622 : (Jvm.Cond.soleField "LetMeModel" "parts") ∈ lw_all := lw_g (lw_at lw_m7 39 rfl) rfl
theorem q1623 : (Jvm.Cond.laysFinal "LetMeModel" "LetMeModel" "left" "[I") ∈ lw_all := lw_g (lw_at lw_m7 40 rfl) rfl
theorem q1624 : (Jvm.Cond.soleField "LetMeModel" "left") ∈ lw_all := lw_g (lw_at lw_m7 41 rfl) rfl
theorem q1625 : (Jvm.Cond.laysFinal "LetMeModel" "LetMeModel" "fresh" "[I") ∈ lw_all := lw_g (lw_at lw_m7 42 rfl) rfl
theorem q1626 : (Jvm.Cond.soleField "LetMeModel" "fresh") ∈ lw_all := lw_g (lw_at lw_m7 43 rfl) rfl
theorem q1627 : (Jvm.Cond.lays "LetMeModel" "LetMeModel" "given" "I") ∈ lw_all := lw_g (lw_at lw_m7 44 rfl) rfl
theorem q1628 : (Jvm.Cond.soleField "LetMeModel" "given") ∈ lw_all := lw_g (lw_at lw_m7 45 rfl) rfl
theorem q1629 : (Jvm.Cond.lays "LetMeModel" "LetMeModel" "drawn" "I") ∈ lw_all := lw_g (lw_at lw_m7 46 rfl) rfl
theorem q1630 : (Jvm.Cond.soleField "LetMeModel" "drawn") ∈ lw_all := lw_g (lw_at lw_m7 47 rfl) rfl
theorem q1631 : (Jvm.Cond.lays "LetMeModel" "LetMeModel" "ranSteps" "I") ∈ lw_all := lw_g (lw_at lw_m7 48 rfl) rfl
theorem q1632 : (Jvm.Cond.soleField "LetMeModel" "ranSteps") ∈ lw_all := lw_g (lw_at lw_m7 49 rfl) rfl
theorem q1633 : (Jvm.Cond.laysFinal "LetMeModel" "LetMeModel" "loops" "[I") ∈ lw_all := lw_g (lw_at lw_m7 50 rfl) rfl
theorem q1634 : (Jvm.Cond.soleField "LetMeModel" "loops") ∈ lw_all := lw_g (lw_at lw_m7 51 rfl) rfl
theorem q1635 : (Jvm.Cond.laysFinal "LetMeModel" "LetMeModel" "ran" "[I") ∈ lw_all := lw_g (lw_at lw_m7 52 rfl) rfl
theorem q1636 : (Jvm.Cond.soleField "LetMeModel" "ran") ∈ lw_all := lw_g (lw_at lw_m7 53 rfl) rfl
theorem q1637 : (Jvm.Cond.laysFinal "LetMeModel" "LetMeModel" "told1" "[I") ∈ lw_all := lw_g (lw_at lw_m7 54 rfl) rfl
theorem q1638 : (Jvm.Cond.soleField "LetMeModel" "told1") ∈ lw_all := lw_g (lw_at lw_m7 55 rfl) rfl
theorem q1639 : (Jvm.Cond.lays "LetMeModel" "LetMeModel" "isTold" "Z") ∈ lw_all := lw_g (lw_at lw_m7 56 rfl) rfl
theorem q1640 : (Jvm.Cond.soleField "LetMeModel" "isTold") ∈ lw_all := lw_g (lw_at lw_m7 57 rfl) rfl
theorem q1641 : (Jvm.Cond.lays "LetMeModel" "LetMeModel" "marks" "I") ∈ lw_all := lw_g (lw_at lw_m7 58 rfl) rfl
theorem q1642 : (Jvm.Cond.soleField "LetMeModel" "marks") ∈ lw_all := lw_g (lw_at lw_m7 59 rfl) rfl
theorem q1643 : (Jvm.Cond.superclass "LetMeModel" "java/lang/Object") ∈ lw_all := lw_g (lw_at lw_m7 60 rfl) rfl
theorem q1645 : (Jvm.Cond.instanceMethod ({ cls := "LetMeModel", name := "status", desc := "()I" } : Jvm.MethodName)) ∈ lw_all := lw_g (lw_at lw_m7 62 rfl) rfl
theorem q1646 : (Jvm.Cond.selects "LetMeModel" ({ cls := "LetMeModel", name := "status", desc := "()I" } : Jvm.MethodName) ({ cls := "LetMeModel", name := "status", desc := "()I" } : Jvm.MethodName)) ∈ lw_all := lw_g (lw_at lw_m7 63 rfl) rfl
theorem q1647 : (Jvm.Cond.code ({ cls := "LetMeModel", name := "status", desc := "()I" } : Jvm.MethodName) prog_16_method_3_code (1 : Nat) (Option.some Jvm.ClassFile.FieldType.int)) ∈ lw_all := lw_g (lw_at lw_m7 64 rfl) rfl
theorem q1649 : (Jvm.Cond.instanceMethod ({ cls := "LetMeModel", name := "top", desc := "()J" } : Jvm.MethodName)) ∈ lw_all := lw_g (lw_at lw_m7 66 rfl) rfl
theorem q1650 : (Jvm.Cond.selects "LetMeModel" ({ cls := "LetMeModel", name := "top", desc := "()J" } : Jvm.MethodName) ({ cls := "LetMeModel", name := "top", desc := "()J" } : Jvm.MethodName)) ∈ lw_all := lw_g (lw_at lw_m7 67 rfl) rfl
theorem q1651 : (Jvm.Cond.code ({ cls := "LetMeModel", name := "top", desc := "()J" } : Jvm.MethodName) prog_16_method_4_code (1 : Nat) (Option.some Jvm.ClassFile.FieldType.long)) ∈ lw_all := lw_g (lw_at lw_m7 68 rfl) rfl
theorem q1653 : (Jvm.Cond.instanceMethod ({ cls := "LetMeModel", name := "bottom", desc := "()J" } : Jvm.MethodName)) ∈ lw_all := lw_g (lw_at lw_m7 70 rfl) rfl
theorem q1654 : (Jvm.Cond.selects "LetMeModel" ({ cls := "LetMeModel", name := "bottom", desc := "()J" } : Jvm.MethodName) ({ cls := "LetMeModel", name := "bottom", desc := "()J" } : Jvm.MethodName)) ∈ lw_all := lw_g (lw_at lw_m7 71 rfl) rfl
theorem q1655 : (Jvm.Cond.code ({ cls := "LetMeModel", name := "bottom", desc := "()J" } : Jvm.MethodName) prog_16_method_5_code (1 : Nat) (Option.some Jvm.ClassFile.FieldType.long)) ∈ lw_all := lw_g (lw_at lw_m7 72 rfl) rfl
theorem q1657 : (Jvm.Cond.instanceMethod ({ cls := "LetMeModel", name := "tray", desc := "(III)Z" } : Jvm.MethodName)) ∈ lw_all := lw_g (lw_at lw_m7 74 rfl) rfl
theorem q1658 : (Jvm.Cond.selects "LetMeModel" ({ cls := "LetMeModel", name := "tray", desc := "(III)Z" } : Jvm.MethodName) ({ cls := "LetMeModel", name := "tray", desc := "(III)Z" } : Jvm.MethodName)) ∈ lw_all := lw_g (lw_at lw_m7 75 rfl) rfl
theorem q1659 : (Jvm.Cond.code ({ cls := "LetMeModel", name := "tray", desc := "(III)Z" } : Jvm.MethodName) prog_16_method_13_code (5 : Nat) (Option.some Jvm.ClassFile.FieldType.boolean)) ∈ lw_all := lw_g (lw_at lw_m7 76 rfl) rfl
theorem q1660 : (Jvm.Cond.methodLink "LetMeModel" (86 : Nat) ({ cls := "LetMeModel", name := "isTray", desc := "(I)Z" } : Jvm.MethodName)) ∈ lw_all := lw_g (lw_at lw_m7 77 rfl) rfl
theorem q1661 : (Jvm.Cond.static ({ cls := "LetMeModel", name := "isTray", desc := "(I)Z" } : Jvm.MethodName)) ∈ lw_all := lw_g (lw_at lw_m7 78 rfl) rfl
theorem q1662 : (Jvm.Cond.code ({ cls := "LetMeModel", name := "isTray", desc := "(I)Z" } : Jvm.MethodName) prog_16_method_11_code (1 : Nat) (Option.some Jvm.ClassFile.FieldType.boolean)) ∈ lw_all := lw_g (lw_at lw_m7 79 rfl) rfl
theorem q1663 : (Jvm.Cond.methodLink "LetMeModel" (82 : Nat) ({ cls := "LetMeModel", name := "is", desc := "(I)Z" } : Jvm.MethodName)) ∈ lw_all := lw_g (lw_at lw_m7 80 rfl) rfl
theorem q1664 : (Jvm.Cond.privateMethod ({ cls := "LetMeModel", name := "is", desc := "(I)Z" } : Jvm.MethodName)) ∈ lw_tbl := lw_at lw_m7 81 rfl
theorem q1665 : (Jvm.Cond.instanceMethod ({ cls := "LetMeModel", name := "is", desc := "(I)Z" } : Jvm.MethodName)) ∈ lw_all := lw_g (lw_at lw_m7 82 rfl) rfl
theorem q1666 : (Jvm.Cond.code ({ cls := "LetMeModel", name := "is", desc := "(I)Z" } : Jvm.MethodName) prog_16_method_6_code (2 : Nat) (Option.some Jvm.ClassFile.FieldType.boolean)) ∈ lw_all := lw_g (lw_at lw_m7 83 rfl) rfl
theorem q1668 : (Jvm.Cond.instanceMethod ({ cls := "LetMeModel", name := "write", desc := "(IIJ)Z" } : Jvm.MethodName)) ∈ lw_all := lw_g (lw_at lw_m7 85 rfl) rfl
theorem q1669 : (Jvm.Cond.selects "LetMeModel" ({ cls := "LetMeModel", name := "write", desc := "(IIJ)Z" } : Jvm.MethodName) ({ cls := "LetMeModel", name := "write", desc := "(IIJ)Z" } : Jvm.MethodName)) ∈ lw_all := lw_g (lw_at lw_m7 86 rfl) rfl
theorem q1670 : (Jvm.Cond.code ({ cls := "LetMeModel", name := "write", desc := "(IIJ)Z" } : Jvm.MethodName) prog_16_method_15_code (6 : Nat) (Option.some Jvm.ClassFile.FieldType.boolean)) ∈ lw_all := lw_g (lw_at lw_m7 87 rfl) rfl
theorem q1671 : (Jvm.Cond.methodLink "LetMeModel" (89 : Nat) ({ cls := "LetMeModel", name := "wrongPlace", desc := "(II)I" } : Jvm.MethodName)) ∈ lw_all := lw_g (lw_at lw_m7 88 rfl) rfl
theorem q1672 : (Jvm.Cond.privateMethod ({ cls := "LetMeModel", name := "wrongPlace", desc := "(II)I" } : Jvm.MethodName)) ∈ lw_tbl := lw_at lw_m7 89 rfl
theorem q1673 : (Jvm.Cond.instanceMethod ({ cls := "LetMeModel", name := "wrongPlace", desc := "(II)I" } : Jvm.MethodName)) ∈ lw_all := lw_g (lw_at lw_m7 90 rfl) rfl
theorem q1674 : (Jvm.Cond.code ({ cls := "LetMeModel", name := "wrongPlace", desc := "(II)I" } : Jvm.MethodName) prog_16_method_14_code (3 : Nat) (Option.some Jvm.ClassFile.FieldType.int)) ∈ lw_all := lw_g (lw_at lw_m7 91 rfl) rfl
theorem q1675 : (Jvm.Cond.methodLink "LetMeModel" (93 : Nat) ({ cls := "LetMeModel", name := "cut", desc := "(JI)J" } : Jvm.MethodName)) ∈ lw_all := lw_g (lw_at lw_m7 92 rfl) rfl
theorem q1676 : (Jvm.Cond.static ({ cls := "LetMeModel", name := "cut", desc := "(JI)J" } : Jvm.MethodName)) ∈ lw_all := lw_g (lw_at lw_m7 93 rfl) rfl
theorem q1677 : (Jvm.Cond.code ({ cls := "LetMeModel", name := "cut", desc := "(JI)J" } : Jvm.MethodName) prog_16_method_12_code (3 : Nat) (Option.some Jvm.ClassFile.FieldType.long)) ∈ lw_all := lw_g (lw_at lw_m7 94 rfl) rfl
theorem q1679 : (Jvm.Cond.instanceMethod ({ cls := "LetMeModel", name := "read", desc := "(II)J" } : Jvm.MethodName)) ∈ lw_all := lw_g (lw_at lw_m7 96 rfl) rfl
theorem q1680 : (Jvm.Cond.selects "LetMeModel" ({ cls := "LetMeModel", name := "read", desc := "(II)J" } : Jvm.MethodName) ({ cls := "LetMeModel", name := "read", desc := "(II)J" } : Jvm.MethodName)) ∈ lw_all := lw_g (lw_at lw_m7 97 rfl) rfl
theorem q1681 : (Jvm.Cond.code ({ cls := "LetMeModel", name := "read", desc := "(II)J" } : Jvm.MethodName) prog_16_method_16_code (3 : Nat) (Option.some Jvm.ClassFile.FieldType.long)) ∈ lw_all := lw_g (lw_at lw_m7 98 rfl) rfl
theorem q1682 : (Jvm.Cond.constantLong "LetMeModel" (97 : Nat) (-1 : Int64)) ∈ lw_all := lw_g (lw_at lw_m7 99 rfl) rfl
theorem q1684 : (Jvm.Cond.instanceMethod ({ cls := "LetMeModel", name := "pour", desc := "(IIIII)Z" } : Jvm.MethodName)) ∈ lw_all := lw_g (lw_at lw_m7 101 rfl) rfl
theorem q1685 : (Jvm.Cond.selects "LetMeModel" ({ cls := "LetMeModel", name := "pour", desc := "(IIIII)Z" } : Jvm.MethodName) ({ cls := "LetMeModel", name := "pour", desc := "(IIIII)Z" } : Jvm.MethodName)) ∈ lw_all := lw_g (lw_at lw_m7 102 rfl) rfl
theorem q1686 : (Jvm.Cond.code ({ cls := "LetMeModel", name := "pour", desc := "(IIIII)Z" } : Jvm.MethodName) prog_16_method_17_code (8 : Nat) (Option.some Jvm.ClassFile.FieldType.boolean)) ∈ lw_all := lw_g (lw_at lw_m7 103 rfl) rfl
theorem q1688 : (Jvm.Cond.instanceMethod ({ cls := "LetMeModel", name := "feed", desc := "(IIIII)I" } : Jvm.MethodName)) ∈ lw_all := lw_g (lw_at lw_m7 105 rfl) rfl
theorem q1689 : (Jvm.Cond.selects "LetMeModel" ({ cls := "LetMeModel", name := "feed", desc := "(IIIII)I" } : Jvm.MethodName) ({ cls := "LetMeModel", name := "feed", desc := "(IIIII)I" } : Jvm.MethodName)) ∈ lw_all := lw_g (lw_at lw_m7 106 rfl) rfl
theorem q1690 : (Jvm.Cond.code ({ cls := "LetMeModel", name := "feed", desc := "(IIIII)I" } : Jvm.MethodName) prog_16_method_19_code (6 : Nat) (Option.some Jvm.ClassFile.FieldType.int)) ∈ lw_all := lw_g (lw_at lw_m7 107 rfl) rfl
theorem q1691 : (Jvm.Cond.methodLink "LetMeModel" (102 : Nat) ({ cls := "LetMeModel", name := "four", desc := "(I)V" } : Jvm.MethodName)) ∈ lw_all := lw_g (lw_at lw_m7 108 rfl) rfl
theorem q1692 : (Jvm.Cond.privateMethod ({ cls := "LetMeModel", name := "four", desc := "(I)V" } : Jvm.MethodName)) ∈ lw_tbl := lw_at lw_m7 109 rfl
theorem q1693 : (Jvm.Cond.instanceMethod ({ cls := "LetMeModel", name := "four", desc := "(I)V" } : Jvm.MethodName)) ∈ lw_all := lw_g (lw_at lw_m7 110 rfl) rfl
theorem q1694 : (Jvm.Cond.code ({ cls := "LetMeModel", name := "four", desc := "(I)V" } : Jvm.MethodName) prog_16_method_20_code (3 : Nat) (Option.none : Option Jvm.ClassFile.FieldType)) ∈ lw_all := lw_g (lw_at lw_m7 111 rfl) rfl
theorem q1696 : (Jvm.Cond.instanceMethod ({ cls := "LetMeModel", name := "fault", desc := "(I)I" } : Jvm.MethodName)) ∈ lw_all := lw_g (lw_at lw_m7 113 rfl) rfl
theorem q1697 : (Jvm.Cond.selects "LetMeModel" ({ cls := "LetMeModel", name := "fault", desc := "(I)I" } : Jvm.MethodName) ({ cls := "LetMeModel", name := "fault", desc := "(I)I" } : Jvm.MethodName)) ∈ lw_all := lw_g (lw_at lw_m7 114 rfl) rfl
theorem q1698 : (Jvm.Cond.code ({ cls := "LetMeModel", name := "fault", desc := "(I)I" } : Jvm.MethodName) prog_16_method_35_code (2 : Nat) (Option.some Jvm.ClassFile.FieldType.int)) ∈ lw_all := lw_g (lw_at lw_m7 115 rfl) rfl
theorem q1700 : (Jvm.Cond.instanceMethod ({ cls := "LetMeModel", name := "table", desc := "(I)I" } : Jvm.MethodName)) ∈ lw_all := lw_g (lw_at lw_m7 117 rfl) rfl
theorem q1701 : (Jvm.Cond.selects "LetMeModel" ({ cls := "LetMeModel", name := "table", desc := "(I)I" } : Jvm.MethodName) ({ cls := "LetMeModel", name := "table", desc := "(I)I" } : Jvm.MethodName)) ∈ lw_all := lw_g (lw_at lw_m7 118 rfl) rfl
theorem q1702 : (Jvm.Cond.code ({ cls := "LetMeModel", name := "table", desc := "(I)I" } : Jvm.MethodName) prog_16_method_47_code (4 : Nat) (Option.some Jvm.ClassFile.FieldType.int)) ∈ lw_all := lw_g (lw_at lw_m7 119 rfl) rfl
theorem q1703 : (Jvm.Cond.methodLink "LetMeModel" (217 : Nat) ({ cls := "LetMeModel", name := "begins", desc := "(II)Z" } : Jvm.MethodName)) ∈ lw_all := lw_g (lw_at lw_m7 120 rfl) rfl
theorem q1704 : (Jvm.Cond.privateMethod ({ cls := "LetMeModel", name := "begins", desc := "(II)Z" } : Jvm.MethodName)) ∈ lw_tbl := lw_at lw_m7 121 rfl
theorem q1705 : (Jvm.Cond.instanceMethod ({ cls := "LetMeModel", name := "begins", desc := "(II)Z" } : Jvm.MethodName)) ∈ lw_all := lw_g (lw_at lw_m7 122 rfl) rfl
theorem q1706 : (Jvm.Cond.code ({ cls := "LetMeModel", name := "begins", desc := "(II)Z" } : Jvm.MethodName) prog_16_method_28_code (4 : Nat) (Option.some Jvm.ClassFile.FieldType.boolean)) ∈ lw_all := lw_g (lw_at lw_m7 123 rfl) rfl
theorem q1707 : (Jvm.Cond.methodLink "LetMeModel" (151 : Nat) ({ cls := "LetMeModel", name := "ahead", desc := "()V" } : Jvm.MethodName)) ∈ lw_all := lw_g (lw_at lw_m7 124 rfl) rfl
theorem q1708 : (Jvm.Cond.privateMethod ({ cls := "LetMeModel", name := "ahead", desc := "()V" } : Jvm.MethodName)) ∈ lw_tbl := lw_at lw_m7 125 rfl
theorem q1709 : (Jvm.Cond.instanceMethod ({ cls := "LetMeModel", name := "ahead", desc := "()V" } : Jvm.MethodName)) ∈ lw_all := lw_g (lw_at lw_m7 126 rfl) rfl
theorem q1710 : (Jvm.Cond.code ({ cls := "LetMeModel", name := "ahead", desc := "()V" } : Jvm.MethodName) prog_16_method_24_code (2 : Nat) (Option.none : Option Jvm.ClassFile.FieldType)) ∈ lw_all := lw_g (lw_at lw_m7 127 rfl) rfl
theorem q1711 : (Jvm.Cond.methodLink "LetMeModel" (111 : Nat) ({ cls := "LetMeModel", name := "byteAt", desc := "(I)I" } : Jvm.MethodName)) ∈ lw_all := lw_g (lw_at lw_m7 128 rfl) rfl
theorem q1712 : (Jvm.Cond.privateMethod ({ cls := "LetMeModel", name := "byteAt", desc := "(I)I" } : Jvm.MethodName)) ∈ lw_tbl := lw_at lw_m7 129 rfl
theorem q1713 : (Jvm.Cond.instanceMethod ({ cls := "LetMeModel", name := "byteAt", desc := "(I)I" } : Jvm.MethodName)) ∈ lw_all := lw_g (lw_at lw_m7 130 rfl) rfl
theorem q1714 : (Jvm.Cond.code ({ cls := "LetMeModel", name := "byteAt", desc := "(I)I" } : Jvm.MethodName) prog_16_method_21_code (2 : Nat) (Option.some Jvm.ClassFile.FieldType.int)) ∈ lw_all := lw_g (lw_at lw_m7 131 rfl) rfl
theorem q1715 : (Jvm.Cond.methodLink "LetMeModel" (123 : Nat) ({ cls := "LetMeModel", name := "isSmall", desc := "(I)Z" } : Jvm.MethodName)) ∈ lw_all := lw_g (lw_at lw_m7 132 rfl) rfl
theorem q1716 : (Jvm.Cond.static ({ cls := "LetMeModel", name := "isSmall", desc := "(I)Z" } : Jvm.MethodName)) ∈ lw_all := lw_g (lw_at lw_m7 133 rfl) rfl
theorem q1717 : (Jvm.Cond.code ({ cls := "LetMeModel", name := "isSmall", desc := "(I)Z" } : Jvm.MethodName) prog_16_method_22_code (1 : Nat) (Option.some Jvm.ClassFile.FieldType.boolean)) ∈ lw_all := lw_g (lw_at lw_m7 134 rfl) rfl
theorem q1718 : (Jvm.Cond.methodLink "LetMeModel" (126 : Nat) ({ cls := "LetMeModel", name := "isDigit", desc := "(I)Z" } : Jvm.MethodName)) ∈ lw_all := lw_g (lw_at lw_m7 135 rfl) rfl
theorem q1719 : (Jvm.Cond.static ({ cls := "LetMeModel", name := "isDigit", desc := "(I)Z" } : Jvm.MethodName)) ∈ lw_all := lw_g (lw_at lw_m7 136 rfl) rfl
theorem q1720 : (Jvm.Cond.code ({ cls := "LetMeModel", name := "isDigit", desc := "(I)Z" } : Jvm.MethodName) prog_16_method_23_code (1 : Nat) (Option.some Jvm.ClassFile.FieldType.boolean)) ∈ lw_all := lw_g (lw_at lw_m7 137 rfl) rfl
theorem q1721 : (Jvm.Cond.constant "LetMeModel" (129 : Nat) (100000 : Int32)) ∈ lw_all := lw_g (lw_at lw_m7 138 rfl) rfl
theorem q1722 : (Jvm.Cond.methodLink "LetMeModel" (130 : Nat) ({ cls := "java/lang/Math", name := "min", desc := "(II)I" } : Jvm.MethodName)) ∈ lw_all := lw_g (lw_at lw_m7 139 rfl) rfl
theorem q1723 : (Jvm.Cond.methodLink "LetMeModel" (75 : Nat) ({ cls := "LetMeModel", name := "refuse", desc := "(I)I" } : Jvm.MethodName)) ∈ lw_all := lw_g (lw_at lw_m7 140 rfl) rfl
theorem q1724 : (Jvm.Cond.privateMethod ({ cls := "LetMeModel", name := "refuse", desc := "(I)I" } : Jvm.MethodName)) ∈ lw_tbl := lw_at lw_m7 141 rfl
theorem q1725 : (Jvm.Cond.instanceMethod ({ cls := "LetMeModel", name := "refuse", desc := "(I)I" } : Jvm.MethodName)) ∈ lw_all := lw_g (lw_at lw_m7 142 rfl) rfl
theorem q1726 : (Jvm.Cond.code ({ cls := "LetMeModel", name := "refuse", desc := "(I)I" } : Jvm.MethodName) prog_16_method_7_code (2 : Nat) (Option.some Jvm.ClassFile.FieldType.int)) ∈ lw_all := lw_g (lw_at lw_m7 143 rfl) rfl
theorem q1727 : (Jvm.Cond.methodLink "LetMeModel" (220 : Nat) ({ cls := "LetMeModel", name := "tablePart", desc := "()Z" } : Jvm.MethodName)) ∈ lw_all := lw_g (lw_at lw_m7 144 rfl) rfl
theorem q1728 : (Jvm.Cond.privateMethod ({ cls := "LetMeModel", name := "tablePart", desc := "()Z" } : Jvm.MethodName)) ∈ lw_tbl := lw_at lw_m7 145 rfl
theorem q1729 : (Jvm.Cond.instanceMethod ({ cls := "LetMeModel", name := "tablePart", desc := "()Z" } : Jvm.MethodName)) ∈ lw_all := lw_g (lw_at lw_m7 146 rfl) rfl
theorem q1730 : (Jvm.Cond.code ({ cls := "LetMeModel", name := "tablePart", desc := "()Z" } : Jvm.MethodName) prog_16_method_46_code (2 : Nat) (Option.some Jvm.ClassFile.FieldType.boolean)) ∈ lw_all := lw_g (lw_at lw_m7 147 rfl) rfl
theorem q1731 : (Jvm.Cond.stringRef "LetMeModel" (168 : Nat) " person couple dish owes split law insists quick minds means guest by heads eaten couples turn owing dinner duel lend gift round with to when loop end stop paid ") ∈ lw_tbl := lw_at lw_m7 148 rfl
theorem q1732 : (Jvm.Cond.methodLink "LetMeModel" (160 : Nat) ({ cls := "LetMeModel", name := "inWords", desc := "(Ljava/lang/String;)I" } : Jvm.MethodName)) ∈ lw_all := lw_g (lw_at lw_m7 149 rfl) rfl
theorem q1733 : (Jvm.Cond.privateMethod ({ cls := "LetMeModel", name := "inWords", desc := "(Ljava/lang/String;)I" } : Jvm.MethodName)) ∈ lw_tbl := lw_at lw_m7 150 rfl
theorem q1734 : (Jvm.Cond.instanceMethod ({ cls := "LetMeModel", name := "inWords", desc := "(Ljava/lang/String;)I" } : Jvm.MethodName)) ∈ lw_all := lw_g (lw_at lw_m7 151 rfl) rfl
theorem q1735 : (Jvm.Cond.code ({ cls := "LetMeModel", name := "inWords", desc := "(Ljava/lang/String;)I" } : Jvm.MethodName) prog_16_method_26_code (7 : Nat) (Option.some Jvm.ClassFile.FieldType.int)) ∈ lw_all := lw_g (lw_at lw_m7 152 rfl) rfl
theorem q1736 : (Jvm.Cond.methodLink "LetMeModel" (135 : Nat) ({ cls := "java/lang/String", name := "length", desc := "()I" } : Jvm.MethodName)) ∈ lw_all := lw_g (lw_at lw_m7 153 rfl) rfl
theorem q1737 : (Jvm.Cond.methodLink "LetMeModel" (141 : Nat) ({ cls := "java/lang/String", name := "charAt", desc := "(I)C" } : Jvm.MethodName)) ∈ lw_all := lw_g (lw_at lw_m7 154 rfl) rfl
theorem q1738 : (Jvm.Cond.methodLink "LetMeModel" (198 : Nat) ({ cls := "LetMeModel", name := "aPerson", desc := "()Z" } : Jvm.MethodName)) ∈ lw_all := lw_g (lw_at lw_m7 155 rfl) rfl
theorem q1739 : (Jvm.Cond.privateMethod ({ cls := "LetMeModel", name := "aPerson", desc := "()Z" } : Jvm.MethodName)) ∈ lw_tbl := lw_at lw_m7 156 rfl
theorem q1740 : (Jvm.Cond.instanceMethod ({ cls := "LetMeModel", name := "aPerson", desc := "()Z" } : Jvm.MethodName)) ∈ lw_all := lw_g (lw_at lw_m7 157 rfl) rfl
theorem q1741 : (Jvm.Cond.code ({ cls := "LetMeModel", name := "aPerson", desc := "()Z" } : Jvm.MethodName) prog_16_method_40_code (3 : Nat) (Option.some Jvm.ClassFile.FieldType.boolean)) ∈ lw_all := lw_g (lw_at lw_m7 158 rfl) rfl
theorem q1742 : (Jvm.Cond.methodLink "LetMeModel" (157 : Nat) ({ cls := "LetMeModel", name := "fails", desc := "(I)Z" } : Jvm.MethodName)) ∈ lw_all := lw_g (lw_at lw_m7 159 rfl) rfl
theorem q1743 : (Jvm.Cond.privateMethod ({ cls := "LetMeModel", name := "fails", desc := "(I)Z" } : Jvm.MethodName)) ∈ lw_tbl := lw_at lw_m7 160 rfl
theorem q1744 : (Jvm.Cond.instanceMethod ({ cls := "LetMeModel", name := "fails", desc := "(I)Z" } : Jvm.MethodName)) ∈ lw_all := lw_g (lw_at lw_m7 161 rfl) rfl
theorem q1745 : (Jvm.Cond.code ({ cls := "LetMeModel", name := "fails", desc := "(I)Z" } : Jvm.MethodName) prog_16_method_27_code (2 : Nat) (Option.some Jvm.ClassFile.FieldType.boolean)) ∈ lw_all := lw_g (lw_at lw_m7 162 rfl) rfl
theorem q1746 : (Jvm.Cond.methodLink "LetMeModel" (170 : Nat) ({ cls := "LetMeModel", name := "isName", desc := "(Ljava/lang/String;)Z" } : Jvm.MethodName)) ∈ lw_all := lw_g (lw_at lw_m7 163 rfl) rfl
theorem q1747 : (Jvm.Cond.privateMethod ({ cls := "LetMeModel", name := "isName", desc := "(Ljava/lang/String;)Z" } : Jvm.MethodName)) ∈ lw_tbl := lw_at lw_m7 164 rfl
theorem q1748 : (Jvm.Cond.instanceMethod ({ cls := "LetMeModel", name := "isName", desc := "(Ljava/lang/String;)Z" } : Jvm.MethodName)) ∈ lw_all := lw_g (lw_at lw_m7 165 rfl) rfl
theorem q1749 : (Jvm.Cond.code ({ cls := "LetMeModel", name := "isName", desc := "(Ljava/lang/String;)Z" } : Jvm.MethodName) prog_16_method_32_code (2 : Nat) (Option.some Jvm.ClassFile.FieldType.boolean)) ∈ lw_all := lw_g (lw_at lw_m7 166 rfl) rfl
theorem q1750 : (Jvm.Cond.methodLink "LetMeModel" (174 : Nat) ({ cls := "LetMeModel", name := "findHere", desc := "(II)I" } : Jvm.MethodName)) ∈ lw_all := lw_g (lw_at lw_m7 167 rfl) rfl
theorem q1751 : (Jvm.Cond.privateMethod ({ cls := "LetMeModel", name := "findHere", desc := "(II)I" } : Jvm.MethodName)) ∈ lw_tbl := lw_at lw_m7 168 rfl
theorem q1752 : (Jvm.Cond.instanceMethod ({ cls := "LetMeModel", name := "findHere", desc := "(II)I" } : Jvm.MethodName)) ∈ lw_all := lw_g (lw_at lw_m7 169 rfl) rfl
theorem q1753 : (Jvm.Cond.code ({ cls := "LetMeModel", name := "findHere", desc := "(II)I" } : Jvm.MethodName) prog_16_method_34_code (4 : Nat) (Option.some Jvm.ClassFile.FieldType.int)) ∈ lw_all := lw_g (lw_at lw_m7 170 rfl) rfl
theorem q1754 : (Jvm.Cond.methodLink "LetMeModel" (164 : Nat) ({ cls := "LetMeModel", name := "nameHere", desc := "()J" } : Jvm.MethodName)) ∈ lw_all := lw_g (lw_at lw_m7 171 rfl) rfl
theorem q1755 : (Jvm.Cond.privateMethod ({ cls := "LetMeModel", name := "nameHere", desc := "()J" } : Jvm.MethodName)) ∈ lw_tbl := lw_at lw_m7 172 rfl
theorem q1756 : (Jvm.Cond.instanceMethod ({ cls := "LetMeModel", name := "nameHere", desc := "()J" } : Jvm.MethodName)) ∈ lw_all := lw_g (lw_at lw_m7 173 rfl) rfl
theorem q1757 : (Jvm.Cond.code ({ cls := "LetMeModel", name := "nameHere", desc := "()J" } : Jvm.MethodName) prog_16_method_33_code (4 : Nat) (Option.some Jvm.ClassFile.FieldType.long)) ∈ lw_all := lw_g (lw_at lw_m7 174 rfl) rfl
theorem q1758 : (Jvm.Cond.methodLink "LetMeModel" (181 : Nat) ({ cls := "LetMeModel", name := "isThere", desc := "(I)Z" } : Jvm.MethodName)) ∈ lw_all := lw_g (lw_at lw_m7 175 rfl) rfl
theorem q1759 : (Jvm.Cond.privateMethod ({ cls := "LetMeModel", name := "isThere", desc := "(I)Z" } : Jvm.MethodName)) ∈ lw_tbl := lw_at lw_m7 176 rfl
theorem q1760 : (Jvm.Cond.instanceMethod ({ cls := "LetMeModel", name := "isThere", desc := "(I)Z" } : Jvm.MethodName)) ∈ lw_all := lw_g (lw_at lw_m7 177 rfl) rfl
theorem q1761 : (Jvm.Cond.code ({ cls := "LetMeModel", name := "isThere", desc := "(I)Z" } : Jvm.MethodName) prog_16_method_37_code (2 : Nat) (Option.some Jvm.ClassFile.FieldType.boolean)) ∈ lw_all := lw_g (lw_at lw_m7 178 rfl) rfl
theorem q1762 : (Jvm.Cond.methodLink "LetMeModel" (184 : Nat) ({ cls := "LetMeModel", name := "number", desc := "(III)Z" } : Jvm.MethodName)) ∈ lw_all := lw_g (lw_at lw_m7 179 rfl) rfl
theorem q1763 : (Jvm.Cond.privateMethod ({ cls := "LetMeModel", name := "number", desc := "(III)Z" } : Jvm.MethodName)) ∈ lw_tbl := lw_at lw_m7 180 rfl
theorem q1764 : (Jvm.Cond.instanceMethod ({ cls := "LetMeModel", name := "number", desc := "(III)Z" } : Jvm.MethodName)) ∈ lw_all := lw_g (lw_at lw_m7 181 rfl) rfl
theorem q1765 : (Jvm.Cond.code ({ cls := "LetMeModel", name := "number", desc := "(III)Z" } : Jvm.MethodName) prog_16_method_31_code (4 : Nat) (Option.some Jvm.ClassFile.FieldType.boolean)) ∈ lw_all := lw_g (lw_at lw_m7 182 rfl) rfl
theorem q1766 : (Jvm.Cond.methodLink "LetMeModel" (202 : Nat) ({ cls := "LetMeModel", name := "aCouple", desc := "()Z" } : Jvm.MethodName)) ∈ lw_all := lw_g (lw_at lw_m7 183 rfl) rfl
theorem q1767 : (Jvm.Cond.privateMethod ({ cls := "LetMeModel", name := "aCouple", desc := "()Z" } : Jvm.MethodName)) ∈ lw_tbl := lw_at lw_m7 184 rfl
theorem q1768 : (Jvm.Cond.instanceMethod ({ cls := "LetMeModel", name := "aCouple", desc := "()Z" } : Jvm.MethodName)) ∈ lw_all := lw_g (lw_at lw_m7 185 rfl) rfl
theorem q1769 : (Jvm.Cond.code ({ cls := "LetMeModel", name := "aCouple", desc := "()Z" } : Jvm.MethodName) prog_16_method_42_code (3 : Nat) (Option.some Jvm.ClassFile.FieldType.boolean)) ∈ lw_all := lw_g (lw_at lw_m7 186 rfl) rfl
theorem q1770 : (Jvm.Cond.methodLink "LetMeModel" (187 : Nat) ({ cls := "LetMeModel", name := "mate", desc := "(II)Z" } : Jvm.MethodName)) ∈ lw_all := lw_g (lw_at lw_m7 187 rfl) rfl
theorem q1771 : (Jvm.Cond.privateMethod ({ cls := "LetMeModel", name := "mate", desc := "(II)Z" } : Jvm.MethodName)) ∈ lw_tbl := lw_at lw_m7 188 rfl
theorem q1772 : (Jvm.Cond.instanceMethod ({ cls := "LetMeModel", name := "mate", desc := "(II)Z" } : Jvm.MethodName)) ∈ lw_all := lw_g (lw_at lw_m7 189 rfl) rfl
theorem q1773 : (Jvm.Cond.code ({ cls := "LetMeModel", name := "mate", desc := "(II)Z" } : Jvm.MethodName) prog_16_method_41_code (4 : Nat) (Option.some Jvm.ClassFile.FieldType.boolean)) ∈ lw_all := lw_g (lw_at lw_m7 190 rfl) rfl
theorem q1774 : (Jvm.Cond.methodLink "LetMeModel" (177 : Nat) ({ cls := "LetMeModel", name := "oldOne", desc := "(III)Z" } : Jvm.MethodName)) ∈ lw_all := lw_g (lw_at lw_m7 191 rfl) rfl
theorem q1775 : (Jvm.Cond.privateMethod ({ cls := "LetMeModel", name := "oldOne", desc := "(III)Z" } : Jvm.MethodName)) ∈ lw_tbl := lw_at lw_m7 192 rfl
theorem q1776 : (Jvm.Cond.instanceMethod ({ cls := "LetMeModel", name := "oldOne", desc := "(III)Z" } : Jvm.MethodName)) ∈ lw_all := lw_g (lw_at lw_m7 193 rfl) rfl
theorem q1777 : (Jvm.Cond.code ({ cls := "LetMeModel", name := "oldOne", desc := "(III)Z" } : Jvm.MethodName) prog_16_method_38_code (4 : Nat) (Option.some Jvm.ClassFile.FieldType.boolean)) ∈ lw_all := lw_g (lw_at lw_m7 194 rfl) rfl
theorem q1778 : (Jvm.Cond.methodLink "LetMeModel" (205 : Nat) ({ cls := "LetMeModel", name := "aDish", desc := "()Z" } : Jvm.MethodName)) ∈ lw_all := lw_g (lw_at lw_m7 195 rfl) rfl
theorem q1779 : (Jvm.Cond.privateMethod ({ cls := "LetMeModel", name := "aDish", desc := "()Z" } : Jvm.MethodName)) ∈ lw_tbl := lw_at lw_m7 196 rfl
theorem q1780 : (Jvm.Cond.instanceMethod ({ cls := "LetMeModel", name := "aDish", desc := "()Z" } : Jvm.MethodName)) ∈ lw_all := lw_g (lw_at lw_m7 197 rfl) rfl
theorem q1781 : (Jvm.Cond.code ({ cls := "LetMeModel", name := "aDish", desc := "()Z" } : Jvm.MethodName) prog_16_method_43_code (2 : Nat) (Option.some Jvm.ClassFile.FieldType.boolean)) ∈ lw_all := lw_g (lw_at lw_m7 198 rfl) rfl
theorem q1782 : (Jvm.Cond.methodLink "LetMeModel" (208 : Nat) ({ cls := "LetMeModel", name := "aDebt", desc := "()Z" } : Jvm.MethodName)) ∈ lw_all := lw_g (lw_at lw_m7 199 rfl) rfl
theorem q1783 : (Jvm.Cond.privateMethod ({ cls := "LetMeModel", name := "aDebt", desc := "()Z" } : Jvm.MethodName)) ∈ lw_tbl := lw_at lw_m7 200 rfl
theorem q1784 : (Jvm.Cond.instanceMethod ({ cls := "LetMeModel", name := "aDebt", desc := "()Z" } : Jvm.MethodName)) ∈ lw_all := lw_g (lw_at lw_m7 201 rfl) rfl
theorem q1785 : (Jvm.Cond.code ({ cls := "LetMeModel", name := "aDebt", desc := "()Z" } : Jvm.MethodName) prog_16_method_44_code (2 : Nat) (Option.some Jvm.ClassFile.FieldType.boolean)) ∈ lw_all := lw_g (lw_at lw_m7 202 rfl) rfl
theorem q1786 : (Jvm.Cond.methodLink "LetMeModel" (191 : Nat) ({ cls := "LetMeModel", name := "otherOne", desc := "(IIII)Z" } : Jvm.MethodName)) ∈ lw_all := lw_g (lw_at lw_m7 203 rfl) rfl
theorem q1787 : (Jvm.Cond.privateMethod ({ cls := "LetMeModel", name := "otherOne", desc := "(IIII)Z" } : Jvm.MethodName)) ∈ lw_tbl := lw_at lw_m7 204 rfl
theorem q1788 : (Jvm.Cond.instanceMethod ({ cls := "LetMeModel", name := "otherOne", desc := "(IIII)Z" } : Jvm.MethodName)) ∈ lw_all := lw_g (lw_at lw_m7 205 rfl) rfl
theorem q1789 : (Jvm.Cond.code ({ cls := "LetMeModel", name := "otherOne", desc := "(IIII)Z" } : Jvm.MethodName) prog_16_method_39_code (5 : Nat) (Option.some Jvm.ClassFile.FieldType.boolean)) ∈ lw_all := lw_g (lw_at lw_m7 206 rfl) rfl
theorem q1790 : (Jvm.Cond.methodLink "LetMeModel" (211 : Nat) ({ cls := "LetMeModel", name := "once", desc := "(I)Z" } : Jvm.MethodName)) ∈ lw_all := lw_g (lw_at lw_m7 207 rfl) rfl
theorem q1791 : (Jvm.Cond.privateMethod ({ cls := "LetMeModel", name := "once", desc := "(I)Z" } : Jvm.MethodName)) ∈ lw_tbl := lw_at lw_m7 208 rfl
theorem q1792 : (Jvm.Cond.instanceMethod ({ cls := "LetMeModel", name := "once", desc := "(I)Z" } : Jvm.MethodName)) ∈ lw_all := lw_g (lw_at lw_m7 209 rfl) rfl
theorem q1793 : (Jvm.Cond.code ({ cls := "LetMeModel", name := "once", desc := "(I)Z" } : Jvm.MethodName) prog_16_method_45_code (4 : Nat) (Option.some Jvm.ClassFile.FieldType.boolean)) ∈ lw_all := lw_g (lw_at lw_m7 210 rfl) rfl
theorem q1794 : (Jvm.Cond.methodLink "LetMeModel" (214 : Nat) ({ cls := "LetMeModel", name := "wantSign", desc := "(I)Z" } : Jvm.MethodName)) ∈ lw_all := lw_g (lw_at lw_m7 211 rfl) rfl
theorem q1795 : (Jvm.Cond.privateMethod ({ cls := "LetMeModel", name := "wantSign", desc := "(I)Z" } : Jvm.MethodName)) ∈ lw_tbl := lw_at lw_m7 212 rfl
theorem q1796 : (Jvm.Cond.instanceMethod ({ cls := "LetMeModel", name := "wantSign", desc := "(I)Z" } : Jvm.MethodName)) ∈ lw_all := lw_g (lw_at lw_m7 213 rfl) rfl
theorem q1797 : (Jvm.Cond.code ({ cls := "LetMeModel", name := "wantSign", desc := "(I)Z" } : Jvm.MethodName) prog_16_method_29_code (2 : Nat) (Option.some Jvm.ClassFile.FieldType.boolean)) ∈ lw_all := lw_g (lw_at lw_m7 214 rfl) rfl
theorem q1798 : (Jvm.Cond.methodLink "LetMeModel" (154 : Nat) ({ cls := "LetMeModel", name := "isSign", desc := "(I)Z" } : Jvm.MethodName)) ∈ lw_all := lw_g (lw_at lw_m7 215 rfl) rfl
theorem q1799 : (Jvm.Cond.privateMethod ({ cls := "LetMeModel", name := "isSign", desc := "(I)Z" } : Jvm.MethodName)) ∈ lw_tbl := lw_at lw_m7 216 rfl
theorem q1800 : (Jvm.Cond.instanceMethod ({ cls := "LetMeModel", name := "isSign", desc := "(I)Z" } : Jvm.MethodName)) ∈ lw_all := lw_g (lw_at lw_m7 217 rfl) rfl
theorem q1801 : (Jvm.Cond.code ({ cls := "LetMeModel", name := "isSign", desc := "(I)Z" } : Jvm.MethodName) prog_16_method_25_code (2 : Nat) (Option.some Jvm.ClassFile.FieldType.boolean)) ∈ lw_all := lw_g (lw_at lw_m7 218 rfl) rfl
theorem q1802 : (Jvm.Cond.methodLink "LetMeModel" (223 : Nat) ({ cls := "LetMeModel", name := "taken", desc := "(I)I" } : Jvm.MethodName)) ∈ lw_all := lw_g (lw_at lw_m7 219 rfl) rfl
theorem q1803 : (Jvm.Cond.privateMethod ({ cls := "LetMeModel", name := "taken", desc := "(I)I" } : Jvm.MethodName)) ∈ lw_tbl := lw_at lw_m7 220 rfl
theorem q1804 : (Jvm.Cond.instanceMethod ({ cls := "LetMeModel", name := "taken", desc := "(I)I" } : Jvm.MethodName)) ∈ lw_all := lw_g (lw_at lw_m7 221 rfl) rfl
theorem q1805 : (Jvm.Cond.code ({ cls := "LetMeModel", name := "taken", desc := "(I)I" } : Jvm.MethodName) prog_16_method_36_code (2 : Nat) (Option.some Jvm.ClassFile.FieldType.int)) ∈ lw_all := lw_g (lw_at lw_m7 222 rfl) rfl
theorem q1806 : (Jvm.Cond.methodLink "LetMeModel" (79 : Nat) ({ cls := "LetMeModel", name := "gives", desc := "(I)I" } : Jvm.MethodName)) ∈ lw_all := lw_g (lw_at lw_m7 223 rfl) rfl
theorem q1807 : (Jvm.Cond.privateMethod ({ cls := "LetMeModel", name := "gives", desc := "(I)I" } : Jvm.MethodName)) ∈ lw_tbl := lw_at lw_m7 224 rfl
theorem q1808 : (Jvm.Cond.instanceMethod ({ cls := "LetMeModel", name := "gives", desc := "(I)I" } : Jvm.MethodName)) ∈ lw_all := lw_g (lw_at lw_m7 225 rfl) rfl
theorem q1809 : (Jvm.Cond.code ({ cls := "LetMeModel", name := "gives", desc := "(I)I" } : Jvm.MethodName) prog_16_method_8_code (2 : Nat) (Option.some Jvm.ClassFile.FieldType.int)) ∈ lw_all := lw_g (lw_at lw_m7 226 rfl) rfl
theorem q1811 : (Jvm.Cond.instanceMethod ({ cls := "LetMeModel", name := "year", desc := "(I)I" } : Jvm.MethodName)) ∈ lw_all := lw_g (lw_at lw_m7 228 rfl) rfl
theorem q1812 : (Jvm.Cond.selects "LetMeModel" ({ cls := "LetMeModel", name := "year", desc := "(I)I" } : Jvm.MethodName) ({ cls := "LetMeModel", name := "year", desc := "(I)I" } : Jvm.MethodName)) ∈ lw_all := lw_g (lw_at lw_m7 229 rfl) rfl
theorem q1813 : (Jvm.Cond.code ({ cls := "LetMeModel", name := "year", desc := "(I)I" } : Jvm.MethodName) prog_16_method_52_code (4 : Nat) (Option.some Jvm.ClassFile.FieldType.int)) ∈ lw_all := lw_g (lw_at lw_m7 230 rfl) rfl
theorem q1814 : (Jvm.Cond.methodLink "LetMeModel" (245 : Nat) ({ cls := "LetMeModel", name := "yearStep", desc := "()Z" } : Jvm.MethodName)) ∈ lw_all := lw_g (lw_at lw_m7 231 rfl) rfl
theorem q1815 : (Jvm.Cond.privateMethod ({ cls := "LetMeModel", name := "yearStep", desc := "()Z" } : Jvm.MethodName)) ∈ lw_tbl := lw_at lw_m7 232 rfl
theorem q1816 : (Jvm.Cond.instanceMethod ({ cls := "LetMeModel", name := "yearStep", desc := "()Z" } : Jvm.MethodName)) ∈ lw_all := lw_g (lw_at lw_m7 233 rfl) rfl
theorem q1817 : (Jvm.Cond.code ({ cls := "LetMeModel", name := "yearStep", desc := "()Z" } : Jvm.MethodName) prog_16_method_51_code (6 : Nat) (Option.some Jvm.ClassFile.FieldType.boolean)) ∈ lw_all := lw_g (lw_at lw_m7 234 rfl) rfl
theorem q1818 : (Jvm.Cond.methodLink "LetMeModel" (242 : Nat) ({ cls := "LetMeModel", name := "yearOrder", desc := "(II)Z" } : Jvm.MethodName)) ∈ lw_all := lw_g (lw_at lw_m7 235 rfl) rfl
theorem q1819 : (Jvm.Cond.privateMethod ({ cls := "LetMeModel", name := "yearOrder", desc := "(II)Z" } : Jvm.MethodName)) ∈ lw_tbl := lw_at lw_m7 236 rfl
theorem q1820 : (Jvm.Cond.instanceMethod ({ cls := "LetMeModel", name := "yearOrder", desc := "(II)Z" } : Jvm.MethodName)) ∈ lw_all := lw_g (lw_at lw_m7 237 rfl) rfl
theorem q1821 : (Jvm.Cond.code ({ cls := "LetMeModel", name := "yearOrder", desc := "(II)Z" } : Jvm.MethodName) prog_16_method_50_code (3 : Nat) (Option.some Jvm.ClassFile.FieldType.boolean)) ∈ lw_all := lw_g (lw_at lw_m7 238 rfl) rfl
theorem q1822 : (Jvm.Cond.methodLink "LetMeModel" (226 : Nat) ({ cls := "LetMeModel", name := "personTo", desc := "(I)Z" } : Jvm.MethodName)) ∈ lw_all := lw_g (lw_at lw_m7 239 rfl) rfl
theorem q1823 : (Jvm.Cond.privateMethod ({ cls := "LetMeModel", name := "personTo", desc := "(I)Z" } : Jvm.MethodName)) ∈ lw_tbl := lw_at lw_m8 0 rfl
theorem q1824 : (Jvm.Cond.instanceMethod ({ cls := "LetMeModel", name := "personTo", desc := "(I)Z" } : Jvm.MethodName)) ∈ lw_all := lw_g (lw_at lw_m8 1 rfl) rfl
theorem q1825 : (Jvm.Cond.code ({ cls := "LetMeModel", name := "personTo", desc := "(I)Z" } : Jvm.MethodName) prog_16_method_48_code (2 : Nat) (Option.some Jvm.ClassFile.FieldType.boolean)) ∈ lw_all := lw_g (lw_at lw_m8 2 rfl) rfl
theorem q1826 : (Jvm.Cond.methodLink "LetMeModel" (229 : Nat) ({ cls := "LetMeModel", name := "wantWord", desc := "(Ljava/lang/String;I)Z" } : Jvm.MethodName)) ∈ lw_all := lw_g (lw_at lw_m8 3 rfl) rfl
theorem q1827 : (Jvm.Cond.privateMethod ({ cls := "LetMeModel", name := "wantWord", desc := "(Ljava/lang/String;I)Z" } : Jvm.MethodName)) ∈ lw_tbl := lw_at lw_m8 4 rfl
theorem q1828 : (Jvm.Cond.instanceMethod ({ cls := "LetMeModel", name := "wantWord", desc := "(Ljava/lang/String;I)Z" } : Jvm.MethodName)) ∈ lw_all := lw_g (lw_at lw_m8 5 rfl) rfl
theorem q1829 : (Jvm.Cond.code ({ cls := "LetMeModel", name := "wantWord", desc := "(Ljava/lang/String;I)Z" } : Jvm.MethodName) prog_16_method_30_code (3 : Nat) (Option.some Jvm.ClassFile.FieldType.boolean)) ∈ lw_all := lw_g (lw_at lw_m8 6 rfl) rfl
theorem q1830 : (Jvm.Cond.methodLink "LetMeModel" (233 : Nat) ({ cls := "LetMeModel", name := "test", desc := "(I)Z" } : Jvm.MethodName)) ∈ lw_all := lw_g (lw_at lw_m8 7 rfl) rfl
theorem q1831 : (Jvm.Cond.privateMethod ({ cls := "LetMeModel", name := "test", desc := "(I)Z" } : Jvm.MethodName)) ∈ lw_tbl := lw_at lw_m8 8 rfl
theorem q1832 : (Jvm.Cond.instanceMethod ({ cls := "LetMeModel", name := "test", desc := "(I)Z" } : Jvm.MethodName)) ∈ lw_all := lw_g (lw_at lw_m8 9 rfl) rfl
theorem q1833 : (Jvm.Cond.code ({ cls := "LetMeModel", name := "test", desc := "(I)Z" } : Jvm.MethodName) prog_16_method_49_code (3 : Nat) (Option.some Jvm.ClassFile.FieldType.boolean)) ∈ lw_all := lw_g (lw_at lw_m8 10 rfl) rfl
theorem q1835 : (Jvm.Cond.instanceMethod ({ cls := "LetMeModel", name := "told", desc := "(I)I" } : Jvm.MethodName)) ∈ lw_all := lw_g (lw_at lw_m8 12 rfl) rfl
theorem q1836 : (Jvm.Cond.selects "LetMeModel" ({ cls := "LetMeModel", name := "told", desc := "(I)I" } : Jvm.MethodName) ({ cls := "LetMeModel", name := "told", desc := "(I)I" } : Jvm.MethodName)) ∈ lw_all := lw_g (lw_at lw_m8 13 rfl) rfl
theorem q1837 : (Jvm.Cond.code ({ cls := "LetMeModel", name := "told", desc := "(I)I" } : Jvm.MethodName) prog_16_method_69_code (2 : Nat) (Option.some Jvm.ClassFile.FieldType.int)) ∈ lw_all := lw_g (lw_at lw_m8 14 rfl) rfl
theorem q1838 : (Jvm.Cond.methodLink "LetMeModel" (273 : Nat) ({ cls := "LetMeModel", name := "bill", desc := "()I" } : Jvm.MethodName)) ∈ lw_all := lw_g (lw_at lw_m8 15 rfl) rfl
theorem q1839 : (Jvm.Cond.privateMethod ({ cls := "LetMeModel", name := "bill", desc := "()I" } : Jvm.MethodName)) ∈ lw_tbl := lw_at lw_m8 16 rfl
theorem q1840 : (Jvm.Cond.instanceMethod ({ cls := "LetMeModel", name := "bill", desc := "()I" } : Jvm.MethodName)) ∈ lw_all := lw_g (lw_at lw_m8 17 rfl) rfl
theorem q1841 : (Jvm.Cond.code ({ cls := "LetMeModel", name := "bill", desc := "()I" } : Jvm.MethodName) prog_16_method_61_code (3 : Nat) (Option.some Jvm.ClassFile.FieldType.int)) ∈ lw_all := lw_g (lw_at lw_m8 18 rfl) rfl
theorem q1842 : (Jvm.Cond.methodLink "LetMeModel" (264 : Nat) ({ cls := "LetMeModel", name := "heads", desc := "()I" } : Jvm.MethodName)) ∈ lw_all := lw_g (lw_at lw_m8 19 rfl) rfl
theorem q1843 : (Jvm.Cond.privateMethod ({ cls := "LetMeModel", name := "heads", desc := "()I" } : Jvm.MethodName)) ∈ lw_tbl := lw_at lw_m8 20 rfl
theorem q1844 : (Jvm.Cond.instanceMethod ({ cls := "LetMeModel", name := "heads", desc := "()I" } : Jvm.MethodName)) ∈ lw_all := lw_g (lw_at lw_m8 21 rfl) rfl
theorem q1845 : (Jvm.Cond.code ({ cls := "LetMeModel", name := "heads", desc := "()I" } : Jvm.MethodName) prog_16_method_59_code (1 : Nat) (Option.some Jvm.ClassFile.FieldType.int)) ∈ lw_all := lw_g (lw_at lw_m8 22 rfl) rfl
theorem q1846 : (Jvm.Cond.methodLink "LetMeModel" (251 : Nat) ({ cls := "LetMeModel", name := "everybody", desc := "()I" } : Jvm.MethodName)) ∈ lw_all := lw_g (lw_at lw_m8 23 rfl) rfl
theorem q1847 : (Jvm.Cond.privateMethod ({ cls := "LetMeModel", name := "everybody", desc := "()I" } : Jvm.MethodName)) ∈ lw_tbl := lw_at lw_m8 24 rfl
theorem q1848 : (Jvm.Cond.instanceMethod ({ cls := "LetMeModel", name := "everybody", desc := "()I" } : Jvm.MethodName)) ∈ lw_all := lw_g (lw_at lw_m8 25 rfl) rfl
theorem q1849 : (Jvm.Cond.code ({ cls := "LetMeModel", name := "everybody", desc := "()I" } : Jvm.MethodName) prog_16_method_58_code (1 : Nat) (Option.some Jvm.ClassFile.FieldType.int)) ∈ lw_all := lw_g (lw_at lw_m8 26 rfl) rfl
theorem q1850 : (Jvm.Cond.methodLink "LetMeModel" (254 : Nat) ({ cls := "LetMeModel", name := "bits", desc := "(I)I" } : Jvm.MethodName)) ∈ lw_all := lw_g (lw_at lw_m8 27 rfl) rfl
theorem q1851 : (Jvm.Cond.static ({ cls := "LetMeModel", name := "bits", desc := "(I)I" } : Jvm.MethodName)) ∈ lw_all := lw_g (lw_at lw_m8 28 rfl) rfl
theorem q1852 : (Jvm.Cond.code ({ cls := "LetMeModel", name := "bits", desc := "(I)I" } : Jvm.MethodName) prog_16_method_57_code (3 : Nat) (Option.some Jvm.ClassFile.FieldType.int)) ∈ lw_all := lw_g (lw_at lw_m8 29 rfl) rfl
theorem q1853 : (Jvm.Cond.methodLink "LetMeModel" (288 : Nat) ({ cls := "LetMeModel", name := "paidByAll", desc := "()I" } : Jvm.MethodName)) ∈ lw_all := lw_g (lw_at lw_m8 30 rfl) rfl
theorem q1854 : (Jvm.Cond.privateMethod ({ cls := "LetMeModel", name := "paidByAll", desc := "()I" } : Jvm.MethodName)) ∈ lw_tbl := lw_at lw_m8 31 rfl
theorem q1855 : (Jvm.Cond.instanceMethod ({ cls := "LetMeModel", name := "paidByAll", desc := "()I" } : Jvm.MethodName)) ∈ lw_all := lw_g (lw_at lw_m8 32 rfl) rfl
theorem q1856 : (Jvm.Cond.code ({ cls := "LetMeModel", name := "paidByAll", desc := "()I" } : Jvm.MethodName) prog_16_method_68_code (3 : Nat) (Option.some Jvm.ClassFile.FieldType.int)) ∈ lw_all := lw_g (lw_at lw_m8 33 rfl) rfl
theorem q1857 : (Jvm.Cond.methodLink "LetMeModel" (267 : Nat) ({ cls := "LetMeModel", name := "personRow", desc := "(I)I" } : Jvm.MethodName)) ∈ lw_all := lw_g (lw_at lw_m8 34 rfl) rfl
theorem q1858 : (Jvm.Cond.static ({ cls := "LetMeModel", name := "personRow", desc := "(I)I" } : Jvm.MethodName)) ∈ lw_all := lw_g (lw_at lw_m8 35 rfl) rfl
theorem q1859 : (Jvm.Cond.code ({ cls := "LetMeModel", name := "personRow", desc := "(I)I" } : Jvm.MethodName) prog_16_method_53_code (1 : Nat) (Option.some Jvm.ClassFile.FieldType.int)) ∈ lw_all := lw_g (lw_at lw_m8 36 rfl) rfl
theorem q1861 : (Jvm.Cond.instanceMethod ({ cls := "LetMeModel", name := "person", desc := "(II)I" } : Jvm.MethodName)) ∈ lw_all := lw_g (lw_at lw_m8 38 rfl) rfl
theorem q1862 : (Jvm.Cond.selects "LetMeModel" ({ cls := "LetMeModel", name := "person", desc := "(II)I" } : Jvm.MethodName) ({ cls := "LetMeModel", name := "person", desc := "(II)I" } : Jvm.MethodName)) ∈ lw_all := lw_g (lw_at lw_m8 39 rfl) rfl
theorem q1863 : (Jvm.Cond.code ({ cls := "LetMeModel", name := "person", desc := "(II)I" } : Jvm.MethodName) prog_16_method_70_code (4 : Nat) (Option.some Jvm.ClassFile.FieldType.int)) ∈ lw_all := lw_g (lw_at lw_m8 40 rfl) rfl
theorem q1864 : (Jvm.Cond.methodLink "LetMeModel" (248 : Nat) ({ cls := "LetMeModel", name := "isPerson", desc := "(I)Z" } : Jvm.MethodName)) ∈ lw_all := lw_g (lw_at lw_m8 41 rfl) rfl
theorem q1865 : (Jvm.Cond.privateMethod ({ cls := "LetMeModel", name := "isPerson", desc := "(I)Z" } : Jvm.MethodName)) ∈ lw_tbl := lw_at lw_m8 42 rfl
theorem q1866 : (Jvm.Cond.instanceMethod ({ cls := "LetMeModel", name := "isPerson", desc := "(I)Z" } : Jvm.MethodName)) ∈ lw_all := lw_g (lw_at lw_m8 43 rfl) rfl
theorem q1867 : (Jvm.Cond.code ({ cls := "LetMeModel", name := "isPerson", desc := "(I)Z" } : Jvm.MethodName) prog_16_method_55_code (2 : Nat) (Option.some Jvm.ClassFile.FieldType.boolean)) ∈ lw_all := lw_g (lw_at lw_m8 44 rfl) rfl
theorem q1868 : (Jvm.Cond.methodLink "LetMeModel" (291 : Nat) ({ cls := "LetMeModel", name := "orNone", desc := "(I)I" } : Jvm.MethodName)) ∈ lw_all := lw_g (lw_at lw_m8 45 rfl) rfl
theorem q1869 : (Jvm.Cond.privateMethod ({ cls := "LetMeModel", name := "orNone", desc := "(I)I" } : Jvm.MethodName)) ∈ lw_tbl := lw_at lw_m8 46 rfl
theorem q1870 : (Jvm.Cond.instanceMethod ({ cls := "LetMeModel", name := "orNone", desc := "(I)I" } : Jvm.MethodName)) ∈ lw_all := lw_g (lw_at lw_m8 47 rfl) rfl
theorem q1871 : (Jvm.Cond.code ({ cls := "LetMeModel", name := "orNone", desc := "(I)I" } : Jvm.MethodName) prog_16_method_9_code (2 : Nat) (Option.some Jvm.ClassFile.FieldType.int)) ∈ lw_all := lw_g (lw_at lw_m8 48 rfl) rfl
theorem q1873 : (Jvm.Cond.instanceMethod ({ cls := "LetMeModel", name := "dish", desc := "(II)I" } : Jvm.MethodName)) ∈ lw_all := lw_g (lw_at lw_m8 50 rfl) rfl
theorem q1874 : (Jvm.Cond.selects "LetMeModel" ({ cls := "LetMeModel", name := "dish", desc := "(II)I" } : Jvm.MethodName) ({ cls := "LetMeModel", name := "dish", desc := "(II)I" } : Jvm.MethodName)) ∈ lw_all := lw_g (lw_at lw_m8 51 rfl) rfl
theorem q1875 : (Jvm.Cond.code ({ cls := "LetMeModel", name := "dish", desc := "(II)I" } : Jvm.MethodName) prog_16_method_71_code (3 : Nat) (Option.some Jvm.ClassFile.FieldType.int)) ∈ lw_all := lw_g (lw_at lw_m8 52 rfl) rfl
theorem q1877 : (Jvm.Cond.instanceMethod ({ cls := "LetMeModel", name := "eaten", desc := "(I)I" } : Jvm.MethodName)) ∈ lw_all := lw_g (lw_at lw_m8 54 rfl) rfl
theorem q1878 : (Jvm.Cond.selects "LetMeModel" ({ cls := "LetMeModel", name := "eaten", desc := "(I)I" } : Jvm.MethodName) ({ cls := "LetMeModel", name := "eaten", desc := "(I)I" } : Jvm.MethodName)) ∈ lw_all := lw_g (lw_at lw_m8 55 rfl) rfl
theorem q1879 : (Jvm.Cond.code ({ cls := "LetMeModel", name := "eaten", desc := "(I)I" } : Jvm.MethodName) prog_16_method_72_code (2 : Nat) (Option.some Jvm.ClassFile.FieldType.int)) ∈ lw_all := lw_g (lw_at lw_m8 56 rfl) rfl
theorem q1880 : (Jvm.Cond.methodLink "LetMeModel" (279 : Nat) ({ cls := "LetMeModel", name := "eatenBy", desc := "(I)I" } : Jvm.MethodName)) ∈ lw_all := lw_g (lw_at lw_m8 57 rfl) rfl
theorem q1881 : (Jvm.Cond.privateMethod ({ cls := "LetMeModel", name := "eatenBy", desc := "(I)I" } : Jvm.MethodName)) ∈ lw_tbl := lw_at lw_m8 58 rfl
theorem q1882 : (Jvm.Cond.instanceMethod ({ cls := "LetMeModel", name := "eatenBy", desc := "(I)I" } : Jvm.MethodName)) ∈ lw_all := lw_g (lw_at lw_m8 59 rfl) rfl
theorem q1883 : (Jvm.Cond.code ({ cls := "LetMeModel", name := "eatenBy", desc := "(I)I" } : Jvm.MethodName) prog_16_method_64_code (4 : Nat) (Option.some Jvm.ClassFile.FieldType.int)) ∈ lw_all := lw_g (lw_at lw_m8 60 rfl) rfl
theorem q1884 : (Jvm.Cond.methodLink "LetMeModel" (257 : Nat) ({ cls := "LetMeModel", name := "commons", desc := "()I" } : Jvm.MethodName)) ∈ lw_all := lw_g (lw_at lw_m8 61 rfl) rfl
theorem q1885 : (Jvm.Cond.privateMethod ({ cls := "LetMeModel", name := "commons", desc := "()I" } : Jvm.MethodName)) ∈ lw_tbl := lw_at lw_m8 62 rfl
theorem q1886 : (Jvm.Cond.instanceMethod ({ cls := "LetMeModel", name := "commons", desc := "()I" } : Jvm.MethodName)) ∈ lw_all := lw_g (lw_at lw_m8 63 rfl) rfl
theorem q1887 : (Jvm.Cond.code ({ cls := "LetMeModel", name := "commons", desc := "()I" } : Jvm.MethodName) prog_16_method_62_code (3 : Nat) (Option.some Jvm.ClassFile.FieldType.int)) ∈ lw_all := lw_g (lw_at lw_m8 64 rfl) rfl
theorem q1888 : (Jvm.Cond.methodLink "LetMeModel" (260 : Nat) ({ cls := "LetMeModel", name := "partOf", desc := "(III)I" } : Jvm.MethodName)) ∈ lw_all := lw_g (lw_at lw_m8 65 rfl) rfl
theorem q1889 : (Jvm.Cond.static ({ cls := "LetMeModel", name := "partOf", desc := "(III)I" } : Jvm.MethodName)) ∈ lw_all := lw_g (lw_at lw_m8 66 rfl) rfl
theorem q1890 : (Jvm.Cond.code ({ cls := "LetMeModel", name := "partOf", desc := "(III)I" } : Jvm.MethodName) prog_16_method_63_code (4 : Nat) (Option.some Jvm.ClassFile.FieldType.int)) ∈ lw_all := lw_g (lw_at lw_m8 67 rfl) rfl
theorem q1892 : (Jvm.Cond.instanceMethod ({ cls := "LetMeModel", name := "due", desc := "(II)I" } : Jvm.MethodName)) ∈ lw_all := lw_g (lw_at lw_m8 69 rfl) rfl
theorem q1893 : (Jvm.Cond.selects "LetMeModel" ({ cls := "LetMeModel", name := "due", desc := "(II)I" } : Jvm.MethodName) ({ cls := "LetMeModel", name := "due", desc := "(II)I" } : Jvm.MethodName)) ∈ lw_all := lw_g (lw_at lw_m8 70 rfl) rfl
theorem q1894 : (Jvm.Cond.code ({ cls := "LetMeModel", name := "due", desc := "(II)I" } : Jvm.MethodName) prog_16_method_74_code (3 : Nat) (Option.some Jvm.ClassFile.FieldType.int)) ∈ lw_all := lw_g (lw_at lw_m8 71 rfl) rfl
theorem q1895 : (Jvm.Cond.methodLink "LetMeModel" (294 : Nat) ({ cls := "LetMeModel", name := "isSplit", desc := "(I)Z" } : Jvm.MethodName)) ∈ lw_all := lw_g (lw_at lw_m8 72 rfl) rfl
theorem q1896 : (Jvm.Cond.static ({ cls := "LetMeModel", name := "isSplit", desc := "(I)Z" } : Jvm.MethodName)) ∈ lw_all := lw_g (lw_at lw_m8 73 rfl) rfl
theorem q1897 : (Jvm.Cond.code ({ cls := "LetMeModel", name := "isSplit", desc := "(I)Z" } : Jvm.MethodName) prog_16_method_73_code (1 : Nat) (Option.some Jvm.ClassFile.FieldType.boolean)) ∈ lw_all := lw_g (lw_at lw_m8 74 rfl) rfl
theorem q1898 : (Jvm.Cond.methodLink "LetMeModel" (282 : Nat) ({ cls := "LetMeModel", name := "dueBy", desc := "(II)I" } : Jvm.MethodName)) ∈ lw_all := lw_g (lw_at lw_m8 75 rfl) rfl
theorem q1899 : (Jvm.Cond.privateMethod ({ cls := "LetMeModel", name := "dueBy", desc := "(II)I" } : Jvm.MethodName)) ∈ lw_tbl := lw_at lw_m8 76 rfl
theorem q1900 : (Jvm.Cond.instanceMethod ({ cls := "LetMeModel", name := "dueBy", desc := "(II)I" } : Jvm.MethodName)) ∈ lw_all := lw_g (lw_at lw_m8 77 rfl) rfl
theorem q1901 : (Jvm.Cond.code ({ cls := "LetMeModel", name := "dueBy", desc := "(II)I" } : Jvm.MethodName) prog_16_method_66_code (5 : Nat) (Option.some Jvm.ClassFile.FieldType.int)) ∈ lw_all := lw_g (lw_at lw_m8 78 rfl) rfl
theorem q1902 : (Jvm.Cond.methodLink "LetMeModel" (276 : Nat) ({ cls := "LetMeModel", name := "units", desc := "()I" } : Jvm.MethodName)) ∈ lw_all := lw_g (lw_at lw_m8 79 rfl) rfl
theorem q1903 : (Jvm.Cond.privateMethod ({ cls := "LetMeModel", name := "units", desc := "()I" } : Jvm.MethodName)) ∈ lw_tbl := lw_at lw_m8 80 rfl
theorem q1904 : (Jvm.Cond.instanceMethod ({ cls := "LetMeModel", name := "units", desc := "()I" } : Jvm.MethodName)) ∈ lw_all := lw_g (lw_at lw_m8 81 rfl) rfl
theorem q1905 : (Jvm.Cond.code ({ cls := "LetMeModel", name := "units", desc := "()I" } : Jvm.MethodName) prog_16_method_65_code (4 : Nat) (Option.some Jvm.ClassFile.FieldType.int)) ∈ lw_all := lw_g (lw_at lw_m8 82 rfl) rfl
theorem q1906 : (Jvm.Cond.methodLink "LetMeModel" (270 : Nat) ({ cls := "LetMeModel", name := "isIn", desc := "(II)Z" } : Jvm.MethodName)) ∈ lw_all := lw_g (lw_at lw_m8 83 rfl) rfl
theorem q1907 : (Jvm.Cond.privateMethod ({ cls := "LetMeModel", name := "isIn", desc := "(II)Z" } : Jvm.MethodName)) ∈ lw_tbl := lw_at lw_m8 84 rfl
theorem q1908 : (Jvm.Cond.instanceMethod ({ cls := "LetMeModel", name := "isIn", desc := "(II)Z" } : Jvm.MethodName)) ∈ lw_all := lw_g (lw_at lw_m8 85 rfl) rfl
theorem q1909 : (Jvm.Cond.code ({ cls := "LetMeModel", name := "isIn", desc := "(II)Z" } : Jvm.MethodName) prog_16_method_60_code (3 : Nat) (Option.some Jvm.ClassFile.FieldType.boolean)) ∈ lw_all := lw_g (lw_at lw_m8 86 rfl) rfl
theorem q1911 : (Jvm.Cond.instanceMethod ({ cls := "LetMeModel", name := "unfair", desc := "(I)I" } : Jvm.MethodName)) ∈ lw_all := lw_g (lw_at lw_m8 88 rfl) rfl
theorem q1912 : (Jvm.Cond.selects "LetMeModel" ({ cls := "LetMeModel", name := "unfair", desc := "(I)I" } : Jvm.MethodName) ({ cls := "LetMeModel", name := "unfair", desc := "(I)I" } : Jvm.MethodName)) ∈ lw_all := lw_g (lw_at lw_m8 89 rfl) rfl
theorem q1913 : (Jvm.Cond.code ({ cls := "LetMeModel", name := "unfair", desc := "(I)I" } : Jvm.MethodName) prog_16_method_75_code (2 : Nat) (Option.some Jvm.ClassFile.FieldType.int)) ∈ lw_all := lw_g (lw_at lw_m8 90 rfl) rfl
theorem q1914 : (Jvm.Cond.methodLink "LetMeModel" (297 : Nat) ({ cls := "LetMeModel", name := "unfairBy", desc := "(I)I" } : Jvm.MethodName)) ∈ lw_all := lw_g (lw_at lw_m8 91 rfl) rfl
theorem q1915 : (Jvm.Cond.privateMethod ({ cls := "LetMeModel", name := "unfairBy", desc := "(I)I" } : Jvm.MethodName)) ∈ lw_tbl := lw_at lw_m8 92 rfl
theorem q1916 : (Jvm.Cond.instanceMethod ({ cls := "LetMeModel", name := "unfairBy", desc := "(I)I" } : Jvm.MethodName)) ∈ lw_all := lw_g (lw_at lw_m8 93 rfl) rfl
theorem q1917 : (Jvm.Cond.code ({ cls := "LetMeModel", name := "unfairBy", desc := "(I)I" } : Jvm.MethodName) prog_16_method_67_code (4 : Nat) (Option.some Jvm.ClassFile.FieldType.int)) ∈ lw_all := lw_g (lw_at lw_m8 94 rfl) rfl
theorem q1918 : (Jvm.Cond.methodLink "LetMeModel" (285 : Nat) ({ cls := "java/lang/Math", name := "abs", desc := "(I)I" } : Jvm.MethodName)) ∈ lw_all := lw_g (lw_at lw_m8 95 rfl) rfl
theorem q1920 : (Jvm.Cond.instanceMethod ({ cls := "LetMeModel", name := "fairest", desc := "()I" } : Jvm.MethodName)) ∈ lw_all := lw_g (lw_at lw_m8 97 rfl) rfl
theorem q1921 : (Jvm.Cond.selects "LetMeModel" ({ cls := "LetMeModel", name := "fairest", desc := "()I" } : Jvm.MethodName) ({ cls := "LetMeModel", name := "fairest", desc := "()I" } : Jvm.MethodName)) ∈ lw_all := lw_g (lw_at lw_m8 98 rfl) rfl
theorem q1922 : (Jvm.Cond.code ({ cls := "LetMeModel", name := "fairest", desc := "()I" } : Jvm.MethodName) prog_16_method_76_code (3 : Nat) (Option.some Jvm.ClassFile.FieldType.int)) ∈ lw_all := lw_g (lw_at lw_m8 99 rfl) rfl
theorem q1924 : (Jvm.Cond.instanceMethod ({ cls := "LetMeModel", name := "dearer", desc := "(III)I" } : Jvm.MethodName)) ∈ lw_all := lw_g (lw_at lw_m8 101 rfl) rfl
theorem q1925 : (Jvm.Cond.selects "LetMeModel" ({ cls := "LetMeModel", name := "dearer", desc := "(III)I" } : Jvm.MethodName) ({ cls := "LetMeModel", name := "dearer", desc := "(III)I" } : Jvm.MethodName)) ∈ lw_all := lw_g (lw_at lw_m8 102 rfl) rfl
theorem q1926 : (Jvm.Cond.code ({ cls := "LetMeModel", name := "dearer", desc := "(III)I" } : Jvm.MethodName) prog_16_method_77_code (4 : Nat) (Option.some Jvm.ClassFile.FieldType.int)) ∈ lw_all := lw_g (lw_at lw_m8 103 rfl) rfl
theorem q1928 : (Jvm.Cond.instanceMethod ({ cls := "LetMeModel", name := "hardest", desc := "(I)I" } : Jvm.MethodName)) ∈ lw_all := lw_g (lw_at lw_m8 105 rfl) rfl
theorem q1929 : (Jvm.Cond.selects "LetMeModel" ({ cls := "LetMeModel", name := "hardest", desc := "(I)I" } : Jvm.MethodName) ({ cls := "LetMeModel", name := "hardest", desc := "(I)I" } : Jvm.MethodName)) ∈ lw_all := lw_g (lw_at lw_m8 106 rfl) rfl
theorem q1930 : (Jvm.Cond.code ({ cls := "LetMeModel", name := "hardest", desc := "(I)I" } : Jvm.MethodName) prog_16_method_78_code (4 : Nat) (Option.some Jvm.ClassFile.FieldType.int)) ∈ lw_all := lw_g (lw_at lw_m8 107 rfl) rfl
theorem q1932 : (Jvm.Cond.instanceMethod ({ cls := "LetMeModel", name := "order", desc := "(II)I" } : Jvm.MethodName)) ∈ lw_all := lw_g (lw_at lw_m8 109 rfl) rfl
theorem q1933 : (Jvm.Cond.selects "LetMeModel" ({ cls := "LetMeModel", name := "order", desc := "(II)I" } : Jvm.MethodName) ({ cls := "LetMeModel", name := "order", desc := "(II)I" } : Jvm.MethodName)) ∈ lw_all := lw_g (lw_at lw_m8 110 rfl) rfl
theorem q1934 : (Jvm.Cond.code ({ cls := "LetMeModel", name := "order", desc := "(II)I" } : Jvm.MethodName) prog_16_method_79_code (4 : Nat) (Option.some Jvm.ClassFile.FieldType.int)) ∈ lw_all := lw_g (lw_at lw_m8 111 rfl) rfl
theorem q1935 : (Jvm.Cond.constantLong "LetMeModel" (300 : Nat) (999 : Int64)) ∈ lw_all := lw_g (lw_at lw_m8 112 rfl) rfl
theorem q1936 : (Jvm.Cond.methodLink "LetMeModel" (302 : Nat) ({ cls := "LetMeModel", name := "isFrom", desc := "(JJJ)Z" } : Jvm.MethodName)) ∈ lw_all := lw_g (lw_at lw_m8 113 rfl) rfl
theorem q1937 : (Jvm.Cond.static ({ cls := "LetMeModel", name := "isFrom", desc := "(JJJ)Z" } : Jvm.MethodName)) ∈ lw_all := lw_g (lw_at lw_m8 114 rfl) rfl
theorem q1938 : (Jvm.Cond.code ({ cls := "LetMeModel", name := "isFrom", desc := "(JJJ)Z" } : Jvm.MethodName) prog_16_method_18_code (6 : Nat) (Option.some Jvm.ClassFile.FieldType.boolean)) ∈ lw_all := lw_g (lw_at lw_m8 115 rfl) rfl
theorem q1940 : (Jvm.Cond.instanceMethod ({ cls := "LetMeModel", name := "strike", desc := "()I" } : Jvm.MethodName)) ∈ lw_all := lw_g (lw_at lw_m8 117 rfl) rfl
theorem q1941 : (Jvm.Cond.selects "LetMeModel" ({ cls := "LetMeModel", name := "strike", desc := "()I" } : Jvm.MethodName) ({ cls := "LetMeModel", name := "strike", desc := "()I" } : Jvm.MethodName)) ∈ lw_all := lw_g (lw_at lw_m8 118 rfl) rfl
theorem q1942 : (Jvm.Cond.code ({ cls := "LetMeModel", name := "strike", desc := "()I" } : Jvm.MethodName) prog_16_method_80_code (1 : Nat) (Option.some Jvm.ClassFile.FieldType.int)) ∈ lw_all := lw_g (lw_at lw_m8 119 rfl) rfl
theorem q1944 : (Jvm.Cond.instanceMethod ({ cls := "LetMeModel", name := "split", desc := "(I)Z" } : Jvm.MethodName)) ∈ lw_all := lw_g (lw_at lw_m8 121 rfl) rfl
theorem q1945 : (Jvm.Cond.selects "LetMeModel" ({ cls := "LetMeModel", name := "split", desc := "(I)Z" } : Jvm.MethodName) ({ cls := "LetMeModel", name := "split", desc := "(I)Z" } : Jvm.MethodName)) ∈ lw_all := lw_g (lw_at lw_m8 122 rfl) rfl
theorem q1946 : (Jvm.Cond.code ({ cls := "LetMeModel", name := "split", desc := "(I)Z" } : Jvm.MethodName) prog_16_method_81_code (2 : Nat) (Option.some Jvm.ClassFile.FieldType.boolean)) ∈ lw_all := lw_g (lw_at lw_m8 123 rfl) rfl
theorem q1948 : (Jvm.Cond.instanceMethod ({ cls := "LetMeModel", name := "law", desc := "(I)Z" } : Jvm.MethodName)) ∈ lw_all := lw_g (lw_at lw_m8 125 rfl) rfl
theorem q1949 : (Jvm.Cond.selects "LetMeModel" ({ cls := "LetMeModel", name := "law", desc := "(I)Z" } : Jvm.MethodName) ({ cls := "LetMeModel", name := "law", desc := "(I)Z" } : Jvm.MethodName)) ∈ lw_all := lw_g (lw_at lw_m8 126 rfl) rfl
theorem q1950 : (Jvm.Cond.code ({ cls := "LetMeModel", name := "law", desc := "(I)Z" } : Jvm.MethodName) prog_16_method_82_code (2 : Nat) (Option.some Jvm.ClassFile.FieldType.boolean)) ∈ lw_all := lw_g (lw_at lw_m8 127 rfl) rfl
theorem q1951 : (Jvm.Cond.constantLong "LetMeModel" (306 : Nat) (3 : Int64)) ∈ lw_all := lw_g (lw_at lw_m8 128 rfl) rfl
theorem q1953 : (Jvm.Cond.instanceMethod ({ cls := "LetMeModel", name := "second", desc := "(II)I" } : Jvm.MethodName)) ∈ lw_all := lw_g (lw_at lw_m8 130 rfl) rfl
theorem q1954 : (Jvm.Cond.selects "LetMeModel" ({ cls := "LetMeModel", name := "second", desc := "(II)I" } : Jvm.MethodName) ({ cls := "LetMeModel", name := "second", desc := "(II)I" } : Jvm.MethodName)) ∈ lw_all := lw_g (lw_at lw_m8 131 rfl) rfl
theorem q1955 : (Jvm.Cond.code ({ cls := "LetMeModel", name := "second", desc := "(II)I" } : Jvm.MethodName) prog_16_method_83_code (8 : Nat) (Option.some Jvm.ClassFile.FieldType.int)) ∈ lw_all := lw_g (lw_at lw_m8 132 rfl) rfl
theorem q1956 : (Jvm.Cond.constantLong "LetMeModel" (308 : Nat) (9999 : Int64)) ∈ lw_all := lw_g (lw_at lw_m8 133 rfl) rfl
theorem q1958 : (Jvm.Cond.instanceMethod ({ cls := "LetMeModel", name := "padded", desc := "(I)I" } : Jvm.MethodName)) ∈ lw_all := lw_g (lw_at lw_m8 135 rfl) rfl
theorem q1959 : (Jvm.Cond.selects "LetMeModel" ({ cls := "LetMeModel", name := "padded", desc := "(I)I" } : Jvm.MethodName) ({ cls := "LetMeModel", name := "padded", desc := "(I)I" } : Jvm.MethodName)) ∈ lw_all := lw_g (lw_at lw_m8 136 rfl) rfl
theorem q1960 : (Jvm.Cond.code ({ cls := "LetMeModel", name := "padded", desc := "(I)I" } : Jvm.MethodName) prog_16_method_84_code (2 : Nat) (Option.some Jvm.ClassFile.FieldType.int)) ∈ lw_all := lw_g (lw_at lw_m8 137 rfl) rfl
theorem q1961 : (Jvm.Cond.constantLong "LetMeModel" (310 : Nat) (99999 : Int64)) ∈ lw_all := lw_g (lw_at lw_m8 138 rfl) rfl
theorem q1963 : (Jvm.Cond.instanceMethod ({ cls := "LetMeModel", name := "pay", desc := "(I)I" } : Jvm.MethodName)) ∈ lw_all := lw_g (lw_at lw_m8 140 rfl) rfl
theorem q1964 : (Jvm.Cond.selects "LetMeModel" ({ cls := "LetMeModel", name := "pay", desc := "(I)I" } : Jvm.MethodName) ({ cls := "LetMeModel", name := "pay", desc := "(I)I" } : Jvm.MethodName)) ∈ lw_all := lw_g (lw_at lw_m8 141 rfl) rfl
theorem q1965 : (Jvm.Cond.code ({ cls := "LetMeModel", name := "pay", desc := "(I)I" } : Jvm.MethodName) prog_16_method_86_code (2 : Nat) (Option.some Jvm.ClassFile.FieldType.int)) ∈ lw_all := lw_g (lw_at lw_m8 142 rfl) rfl
theorem q1966 : (Jvm.Cond.methodLink "LetMeModel" (316 : Nat) ({ cls := "LetMeModel", name := "pays", desc := "(I)Z" } : Jvm.MethodName)) ∈ lw_all := lw_g (lw_at lw_m8 143 rfl) rfl
theorem q1967 : (Jvm.Cond.privateMethod ({ cls := "LetMeModel", name := "pays", desc := "(I)Z" } : Jvm.MethodName)) ∈ lw_tbl := lw_at lw_m8 144 rfl
theorem q1968 : (Jvm.Cond.instanceMethod ({ cls := "LetMeModel", name := "pays", desc := "(I)Z" } : Jvm.MethodName)) ∈ lw_all := lw_g (lw_at lw_m8 145 rfl) rfl
theorem q1969 : (Jvm.Cond.code ({ cls := "LetMeModel", name := "pays", desc := "(I)Z" } : Jvm.MethodName) prog_16_method_85_code (3 : Nat) (Option.some Jvm.ClassFile.FieldType.boolean)) ∈ lw_all := lw_g (lw_at lw_m8 146 rfl) rfl
theorem q1970 : (Jvm.Cond.methodLink "LetMeModel" (312 : Nat) ({ cls := "LetMeModel", name := "debtRow", desc := "(II)I" } : Jvm.MethodName)) ∈ lw_all := lw_g (lw_at lw_m8 147 rfl) rfl
theorem q1971 : (Jvm.Cond.static ({ cls := "LetMeModel", name := "debtRow", desc := "(II)I" } : Jvm.MethodName)) ∈ lw_all := lw_g (lw_at lw_m8 148 rfl) rfl
theorem q1972 : (Jvm.Cond.code ({ cls := "LetMeModel", name := "debtRow", desc := "(II)I" } : Jvm.MethodName) prog_16_method_54_code (2 : Nat) (Option.some Jvm.ClassFile.FieldType.int)) ∈ lw_all := lw_g (lw_at lw_m8 149 rfl) rfl
theorem q1973 : (Jvm.Cond.constant "LetMeModel" (315 : Nat) (999999 : Int32)) ∈ lw_all := lw_g (lw_at lw_m8 150 rfl) rfl
theorem q1975 : (Jvm.Cond.instanceMethod ({ cls := "LetMeModel", name := "turn", desc := "()I" } : Jvm.MethodName)) ∈ lw_all := lw_g (lw_at lw_m8 152 rfl) rfl
theorem q1976 : (Jvm.Cond.selects "LetMeModel" ({ cls := "LetMeModel", name := "turn", desc := "()I" } : Jvm.MethodName) ({ cls := "LetMeModel", name := "turn", desc := "()I" } : Jvm.MethodName)) ∈ lw_all := lw_g (lw_at lw_m8 153 rfl) rfl
theorem q1977 : (Jvm.Cond.code ({ cls := "LetMeModel", name := "turn", desc := "()I" } : Jvm.MethodName) prog_16_method_90_code (1 : Nat) (Option.some Jvm.ClassFile.FieldType.int)) ∈ lw_all := lw_g (lw_at lw_m8 154 rfl) rfl
theorem q1978 : (Jvm.Cond.methodLink "LetMeModel" (325 : Nat) ({ cls := "LetMeModel", name := "turnOf", desc := "(I)I" } : Jvm.MethodName)) ∈ lw_all := lw_g (lw_at lw_m8 155 rfl) rfl
theorem q1979 : (Jvm.Cond.privateMethod ({ cls := "LetMeModel", name := "turnOf", desc := "(I)I" } : Jvm.MethodName)) ∈ lw_tbl := lw_at lw_m8 156 rfl
theorem q1980 : (Jvm.Cond.instanceMethod ({ cls := "LetMeModel", name := "turnOf", desc := "(I)I" } : Jvm.MethodName)) ∈ lw_all := lw_g (lw_at lw_m8 157 rfl) rfl
theorem q1981 : (Jvm.Cond.code ({ cls := "LetMeModel", name := "turnOf", desc := "(I)I" } : Jvm.MethodName) prog_16_method_89_code (4 : Nat) (Option.some Jvm.ClassFile.FieldType.int)) ∈ lw_all := lw_g (lw_at lw_m8 158 rfl) rfl
theorem q1982 : (Jvm.Cond.methodLink "LetMeModel" (322 : Nat) ({ cls := "LetMeModel", name := "waits", desc := "(II)I" } : Jvm.MethodName)) ∈ lw_all := lw_g (lw_at lw_m8 159 rfl) rfl
theorem q1983 : (Jvm.Cond.privateMethod ({ cls := "LetMeModel", name := "waits", desc := "(II)I" } : Jvm.MethodName)) ∈ lw_tbl := lw_at lw_m8 160 rfl
theorem q1984 : (Jvm.Cond.instanceMethod ({ cls := "LetMeModel", name := "waits", desc := "(II)I" } : Jvm.MethodName)) ∈ lw_all := lw_g (lw_at lw_m8 161 rfl) rfl
theorem q1985 : (Jvm.Cond.code ({ cls := "LetMeModel", name := "waits", desc := "(II)I" } : Jvm.MethodName) prog_16_method_88_code (3 : Nat) (Option.some Jvm.ClassFile.FieldType.int)) ∈ lw_all := lw_g (lw_at lw_m8 162 rfl) rfl
theorem q1986 : (Jvm.Cond.methodLink "LetMeModel" (319 : Nat) ({ cls := "LetMeModel", name := "balanceOf", desc := "(I)I" } : Jvm.MethodName)) ∈ lw_all := lw_g (lw_at lw_m8 163 rfl) rfl
theorem q1987 : (Jvm.Cond.privateMethod ({ cls := "LetMeModel", name := "balanceOf", desc := "(I)I" } : Jvm.MethodName)) ∈ lw_tbl := lw_at lw_m8 164 rfl
theorem q1988 : (Jvm.Cond.instanceMethod ({ cls := "LetMeModel", name := "balanceOf", desc := "(I)I" } : Jvm.MethodName)) ∈ lw_all := lw_g (lw_at lw_m8 165 rfl) rfl
theorem q1989 : (Jvm.Cond.code ({ cls := "LetMeModel", name := "balanceOf", desc := "(I)I" } : Jvm.MethodName) prog_16_method_87_code (4 : Nat) (Option.some Jvm.ClassFile.FieldType.int)) ∈ lw_all := lw_g (lw_at lw_m8 166 rfl) rfl
theorem q1991 : (Jvm.Cond.instanceMethod ({ cls := "LetMeModel", name := "turnBy", desc := "(I)I" } : Jvm.MethodName)) ∈ lw_all := lw_g (lw_at lw_m8 168 rfl) rfl
theorem q1992 : (Jvm.Cond.selects "LetMeModel" ({ cls := "LetMeModel", name := "turnBy", desc := "(I)I" } : Jvm.MethodName) ({ cls := "LetMeModel", name := "turnBy", desc := "(I)I" } : Jvm.MethodName)) ∈ lw_all := lw_g (lw_at lw_m8 169 rfl) rfl
theorem q1993 : (Jvm.Cond.code ({ cls := "LetMeModel", name := "turnBy", desc := "(I)I" } : Jvm.MethodName) prog_16_method_91_code (2 : Nat) (Option.some Jvm.ClassFile.FieldType.int)) ∈ lw_all := lw_g (lw_at lw_m8 170 rfl) rfl
theorem q1995 : (Jvm.Cond.instanceMethod ({ cls := "LetMeModel", name := "duel", desc := "(II)Z" } : Jvm.MethodName)) ∈ lw_all := lw_g (lw_at lw_m8 172 rfl) rfl
theorem q1996 : (Jvm.Cond.selects "LetMeModel" ({ cls := "LetMeModel", name := "duel", desc := "(II)Z" } : Jvm.MethodName) ({ cls := "LetMeModel", name := "duel", desc := "(II)Z" } : Jvm.MethodName)) ∈ lw_all := lw_g (lw_at lw_m8 173 rfl) rfl
theorem q1997 : (Jvm.Cond.code ({ cls := "LetMeModel", name := "duel", desc := "(II)Z" } : Jvm.MethodName) prog_16_method_96_code (3 : Nat) (Option.some Jvm.ClassFile.FieldType.boolean)) ∈ lw_all := lw_g (lw_at lw_m8 174 rfl) rfl
theorem q1998 : (Jvm.Cond.methodLink "LetMeModel" (331 : Nat) ({ cls := "LetMeModel", name := "areTwo", desc := "(II)Z" } : Jvm.MethodName)) ∈ lw_all := lw_g (lw_at lw_m8 175 rfl) rfl
theorem q1999 : (Jvm.Cond.privateMethod ({ cls := "LetMeModel", name := "areTwo", desc := "(II)Z" } : Jvm.MethodName)) ∈ lw_tbl := lw_at lw_m8 176 rfl
theorem q2000 : (Jvm.Cond.instanceMethod ({ cls := "LetMeModel", name := "areTwo", desc := "(II)Z" } : Jvm.MethodName)) ∈ lw_all := lw_g (lw_at lw_m8 177 rfl) rfl
theorem q2001 : (Jvm.Cond.code ({ cls := "LetMeModel", name := "areTwo", desc := "(II)Z" } : Jvm.MethodName) prog_16_method_56_code (3 : Nat) (Option.some Jvm.ClassFile.FieldType.boolean)) ∈ lw_all := lw_g (lw_at lw_m8 178 rfl) rfl
theorem q2002 : (Jvm.Cond.methodLink "LetMeModel" (334 : Nat) ({ cls := "LetMeModel", name := "isEndless", desc := "(II)Z" } : Jvm.MethodName)) ∈ lw_all := lw_g (lw_at lw_m8 179 rfl) rfl
theorem q2003 : (Jvm.Cond.privateMethod ({ cls := "LetMeModel", name := "isEndless", desc := "(II)Z" } : Jvm.MethodName)) ∈ lw_tbl := lw_at lw_m8 180 rfl
theorem q2004 : (Jvm.Cond.instanceMethod ({ cls := "LetMeModel", name := "isEndless", desc := "(II)Z" } : Jvm.MethodName)) ∈ lw_all := lw_g (lw_at lw_m8 181 rfl) rfl
theorem q2005 : (Jvm.Cond.code ({ cls := "LetMeModel", name := "isEndless", desc := "(II)Z" } : Jvm.MethodName) prog_16_method_93_code (3 : Nat) (Option.some Jvm.ClassFile.FieldType.boolean)) ∈ lw_all := lw_g (lw_at lw_m8 182 rfl) rfl
theorem q2006 : (Jvm.Cond.methodLink "LetMeModel" (328 : Nat) ({ cls := "LetMeModel", name := "insists", desc := "(I)I" } : Jvm.MethodName)) ∈ lw_all := lw_g (lw_at lw_m8 183 rfl) rfl
theorem q2007 : (Jvm.Cond.privateMethod ({ cls := "LetMeModel", name := "insists", desc := "(I)I" } : Jvm.MethodName)) ∈ lw_tbl := lw_at lw_m8 184 rfl
theorem q2008 : (Jvm.Cond.instanceMethod ({ cls := "LetMeModel", name := "insists", desc := "(I)I" } : Jvm.MethodName)) ∈ lw_all := lw_g (lw_at lw_m8 185 rfl) rfl
theorem q2009 : (Jvm.Cond.code ({ cls := "LetMeModel", name := "insists", desc := "(I)I" } : Jvm.MethodName) prog_16_method_92_code (2 : Nat) (Option.some Jvm.ClassFile.FieldType.int)) ∈ lw_all := lw_g (lw_at lw_m8 186 rfl) rfl
theorem q2010 : (Jvm.Cond.methodLink "LetMeModel" (337 : Nat) ({ cls := "LetMeModel", name := "first", desc := "(II)I" } : Jvm.MethodName)) ∈ lw_all := lw_g (lw_at lw_m8 187 rfl) rfl
theorem q2011 : (Jvm.Cond.privateMethod ({ cls := "LetMeModel", name := "first", desc := "(II)I" } : Jvm.MethodName)) ∈ lw_tbl := lw_at lw_m8 188 rfl
theorem q2012 : (Jvm.Cond.instanceMethod ({ cls := "LetMeModel", name := "first", desc := "(II)I" } : Jvm.MethodName)) ∈ lw_all := lw_g (lw_at lw_m8 189 rfl) rfl
theorem q2013 : (Jvm.Cond.code ({ cls := "LetMeModel", name := "first", desc := "(II)I" } : Jvm.MethodName) prog_16_method_94_code (3 : Nat) (Option.some Jvm.ClassFile.FieldType.int)) ∈ lw_all := lw_g (lw_at lw_m8 190 rfl) rfl
theorem q2014 : (Jvm.Cond.methodLink "LetMeModel" (340 : Nat) ({ cls := "LetMeModel", name := "behind", desc := "(II)I" } : Jvm.MethodName)) ∈ lw_all := lw_g (lw_at lw_m8 191 rfl) rfl
theorem q2015 : (Jvm.Cond.privateMethod ({ cls := "LetMeModel", name := "behind", desc := "(II)I" } : Jvm.MethodName)) ∈ lw_tbl := lw_at lw_m8 192 rfl
theorem q2016 : (Jvm.Cond.instanceMethod ({ cls := "LetMeModel", name := "behind", desc := "(II)I" } : Jvm.MethodName)) ∈ lw_all := lw_g (lw_at lw_m8 193 rfl) rfl
theorem q2017 : (Jvm.Cond.code ({ cls := "LetMeModel", name := "behind", desc := "(II)I" } : Jvm.MethodName) prog_16_method_95_code (3 : Nat) (Option.some Jvm.ClassFile.FieldType.int)) ∈ lw_all := lw_g (lw_at lw_m8 194 rfl) rfl
theorem q2018 : (Jvm.Cond.methodLink "LetMeModel" (343 : Nat) ({ cls := "LetMeModel", name := "tellsBy", desc := "(JJ)Z" } : Jvm.MethodName)) ∈ lw_all := lw_g (lw_at lw_m8 195 rfl) rfl
theorem q2019 : (Jvm.Cond.privateMethod ({ cls := "LetMeModel", name := "tellsBy", desc := "(JJ)Z" } : Jvm.MethodName)) ∈ lw_tbl := lw_at lw_m8 196 rfl
theorem q2020 : (Jvm.Cond.instanceMethod ({ cls := "LetMeModel", name := "tellsBy", desc := "(JJ)Z" } : Jvm.MethodName)) ∈ lw_all := lw_g (lw_at lw_m8 197 rfl) rfl
theorem q2021 : (Jvm.Cond.code ({ cls := "LetMeModel", name := "tellsBy", desc := "(JJ)Z" } : Jvm.MethodName) prog_16_method_10_code (11 : Nat) (Option.some Jvm.ClassFile.FieldType.boolean)) ∈ lw_all := lw_g (lw_at lw_m8 198 rfl) rfl
theorem q2023 : (Jvm.Cond.instanceMethod ({ cls := "LetMeModel", name := "goes", desc := "(II)Z" } : Jvm.MethodName)) ∈ lw_all := lw_g (lw_at lw_m8 200 rfl) rfl
theorem q2024 : (Jvm.Cond.selects "LetMeModel" ({ cls := "LetMeModel", name := "goes", desc := "(II)Z" } : Jvm.MethodName) ({ cls := "LetMeModel", name := "goes", desc := "(II)Z" } : Jvm.MethodName)) ∈ lw_all := lw_g (lw_at lw_m8 201 rfl) rfl
theorem q2025 : (Jvm.Cond.code ({ cls := "LetMeModel", name := "goes", desc := "(II)Z" } : Jvm.MethodName) prog_16_method_97_code (3 : Nat) (Option.some Jvm.ClassFile.FieldType.boolean)) ∈ lw_all := lw_g (lw_at lw_m8 202 rfl) rfl
theorem q2026 : (Jvm.Cond.constantLong "LetMeModel" (347 : Nat) (16 : Int64)) ∈ lw_all := lw_g (lw_at lw_m8 203 rfl) rfl
theorem q2028 : (Jvm.Cond.instanceMethod ({ cls := "LetMeModel", name := "trio", desc := "(IIII)Z" } : Jvm.MethodName)) ∈ lw_all := lw_g (lw_at lw_m8 205 rfl) rfl
theorem q2029 : (Jvm.Cond.selects "LetMeModel" ({ cls := "LetMeModel", name := "trio", desc := "(IIII)Z" } : Jvm.MethodName) ({ cls := "LetMeModel", name := "trio", desc := "(IIII)Z" } : Jvm.MethodName)) ∈ lw_all := lw_g (lw_at lw_m8 206 rfl) rfl
theorem q2030 : (Jvm.Cond.code ({ cls := "LetMeModel", name := "trio", desc := "(IIII)Z" } : Jvm.MethodName) prog_16_method_98_code (12 : Nat) (Option.some Jvm.ClassFile.FieldType.boolean)) ∈ lw_all := lw_g (lw_at lw_m8 207 rfl) rfl
theorem q2031 : (Jvm.Cond.constantLong "LetMeModel" (349 : Nat) (4096 : Int64)) ∈ lw_all := lw_g (lw_at lw_m8 208 rfl) rfl
theorem q2033 : (Jvm.Cond.instanceMethod ({ cls := "LetMeModel", name := "reach", desc := "(II)Z" } : Jvm.MethodName)) ∈ lw_all := lw_g (lw_at lw_m8 210 rfl) rfl
theorem q2034 : (Jvm.Cond.selects "LetMeModel" ({ cls := "LetMeModel", name := "reach", desc := "(II)Z" } : Jvm.MethodName) ({ cls := "LetMeModel", name := "reach", desc := "(II)Z" } : Jvm.MethodName)) ∈ lw_all := lw_g (lw_at lw_m8 211 rfl) rfl
theorem q2035 : (Jvm.Cond.code ({ cls := "LetMeModel", name := "reach", desc := "(II)Z" } : Jvm.MethodName) prog_16_method_100_code (3 : Nat) (Option.some Jvm.ClassFile.FieldType.boolean)) ∈ lw_all := lw_g (lw_at lw_m8 212 rfl) rfl
theorem q2036 : (Jvm.Cond.methodLink "LetMeModel" (351 : Nat) ({ cls := "LetMeModel", name := "quickOf", desc := "(I)I" } : Jvm.MethodName)) ∈ lw_all := lw_g (lw_at lw_m8 213 rfl) rfl
theorem q2037 : (Jvm.Cond.privateMethod ({ cls := "LetMeModel", name := "quickOf", desc := "(I)I" } : Jvm.MethodName)) ∈ lw_tbl := lw_at lw_m8 214 rfl
theorem q2038 : (Jvm.Cond.instanceMethod ({ cls := "LetMeModel", name := "quickOf", desc := "(I)I" } : Jvm.MethodName)) ∈ lw_all := lw_g (lw_at lw_m8 215 rfl) rfl
theorem q2039 : (Jvm.Cond.code ({ cls := "LetMeModel", name := "quickOf", desc := "(I)I" } : Jvm.MethodName) prog_16_method_99_code (4 : Nat) (Option.some Jvm.ClassFile.FieldType.int)) ∈ lw_all := lw_g (lw_at lw_m8 216 rfl) rfl
theorem q2041 : (Jvm.Cond.instanceMethod ({ cls := "LetMeModel", name := "easyOn", desc := "(I)I" } : Jvm.MethodName)) ∈ lw_all := lw_g (lw_at lw_m8 218 rfl) rfl
theorem q2042 : (Jvm.Cond.selects "LetMeModel" ({ cls := "LetMeModel", name := "easyOn", desc := "(I)I" } : Jvm.MethodName) ({ cls := "LetMeModel", name := "easyOn", desc := "(I)I" } : Jvm.MethodName)) ∈ lw_all := lw_g (lw_at lw_m8 219 rfl) rfl
theorem q2043 : (Jvm.Cond.code ({ cls := "LetMeModel", name := "easyOn", desc := "(I)I" } : Jvm.MethodName) prog_16_method_101_code (4 : Nat) (Option.some Jvm.ClassFile.FieldType.int)) ∈ lw_all := lw_g (lw_at lw_m8 220 rfl) rfl
theorem q2045 : (Jvm.Cond.instanceMethod ({ cls := "LetMeModel", name := "regret", desc := "(I)I" } : Jvm.MethodName)) ∈ lw_all := lw_g (lw_at lw_m8 222 rfl) rfl
theorem q2046 : (Jvm.Cond.selects "LetMeModel" ({ cls := "LetMeModel", name := "regret", desc := "(I)I" } : Jvm.MethodName) ({ cls := "LetMeModel", name := "regret", desc := "(I)I" } : Jvm.MethodName)) ∈ lw_all := lw_g (lw_at lw_m8 223 rfl) rfl
theorem q2047 : (Jvm.Cond.code ({ cls := "LetMeModel", name := "regret", desc := "(I)I" } : Jvm.MethodName) prog_16_method_103_code (2 : Nat) (Option.some Jvm.ClassFile.FieldType.int)) ∈ lw_all := lw_g (lw_at lw_m8 224 rfl) rfl
theorem q2048 : (Jvm.Cond.methodLink "LetMeModel" (354 : Nat) ({ cls := "LetMeModel", name := "regretOf", desc := "(I)I" } : Jvm.MethodName)) ∈ lw_all := lw_g (lw_at lw_m8 225 rfl) rfl
theorem q2049 : (Jvm.Cond.privateMethod ({ cls := "LetMeModel", name := "regretOf", desc := "(I)I" } : Jvm.MethodName)) ∈ lw_tbl := lw_at lw_m8 226 rfl
theorem q2050 : (Jvm.Cond.instanceMethod ({ cls := "LetMeModel", name := "regretOf", desc := "(I)I" } : Jvm.MethodName)) ∈ lw_all := lw_g (lw_at lw_m8 227 rfl) rfl
theorem q2051 : (Jvm.Cond.code ({ cls := "LetMeModel", name := "regretOf", desc := "(I)I" } : Jvm.MethodName) prog_16_method_102_code (2 : Nat) (Option.some Jvm.ClassFile.FieldType.int)) ∈ lw_all := lw_g (lw_at lw_m8 228 rfl) rfl
theorem q2053 : (Jvm.Cond.instanceMethod ({ cls := "LetMeModel", name := "sorest", desc := "()I" } : Jvm.MethodName)) ∈ lw_all := lw_g (lw_at lw_m8 230 rfl) rfl
theorem q2054 : (Jvm.Cond.selects "LetMeModel" ({ cls := "LetMeModel", name := "sorest", desc := "()I" } : Jvm.MethodName) ({ cls := "LetMeModel", name := "sorest", desc := "()I" } : Jvm.MethodName)) ∈ lw_all := lw_g (lw_at lw_m8 231 rfl) rfl
theorem q2055 : (Jvm.Cond.code ({ cls := "LetMeModel", name := "sorest", desc := "()I" } : Jvm.MethodName) prog_16_method_104_code (3 : Nat) (Option.some Jvm.ClassFile.FieldType.int)) ∈ lw_all := lw_g (lw_at lw_m8 232 rfl) rfl
theorem q2057 : (Jvm.Cond.instanceMethod ({ cls := "LetMeModel", name := "owes", desc := "(II)I" } : Jvm.MethodName)) ∈ lw_all := lw_g (lw_at lw_m8 234 rfl) rfl
theorem q2058 : (Jvm.Cond.selects "LetMeModel" ({ cls := "LetMeModel", name := "owes", desc := "(II)I" } : Jvm.MethodName) ({ cls := "LetMeModel", name := "owes", desc := "(II)I" } : Jvm.MethodName)) ∈ lw_all := lw_g (lw_at lw_m8 235 rfl) rfl
theorem q2059 : (Jvm.Cond.code ({ cls := "LetMeModel", name := "owes", desc := "(II)I" } : Jvm.MethodName) prog_16_method_105_code (3 : Nat) (Option.some Jvm.ClassFile.FieldType.int)) ∈ lw_all := lw_g (lw_at lw_m8 236 rfl) rfl
theorem q2061 : (Jvm.Cond.instanceMethod ({ cls := "LetMeModel", name := "lend", desc := "(III)I" } : Jvm.MethodName)) ∈ lw_all := lw_g (lw_at lw_m8 238 rfl) rfl
theorem q2062 : (Jvm.Cond.selects "LetMeModel" ({ cls := "LetMeModel", name := "lend", desc := "(III)I" } : Jvm.MethodName) ({ cls := "LetMeModel", name := "lend", desc := "(III)I" } : Jvm.MethodName)) ∈ lw_all := lw_g (lw_at lw_m8 239 rfl) rfl
theorem q2063 : (Jvm.Cond.code ({ cls := "LetMeModel", name := "lend", desc := "(III)I" } : Jvm.MethodName) prog_16_method_107_code (4 : Nat) (Option.some Jvm.ClassFile.FieldType.int)) ∈ lw_all := lw_g (lw_at lw_m9 0 rfl) rfl
theorem q2064 : (Jvm.Cond.methodLink "LetMeModel" (357 : Nat) ({ cls := "LetMeModel", name := "lends", desc := "(III)Z" } : Jvm.MethodName)) ∈ lw_all := lw_g (lw_at lw_m9 1 rfl) rfl
theorem q2065 : (Jvm.Cond.privateMethod ({ cls := "LetMeModel", name := "lends", desc := "(III)Z" } : Jvm.MethodName)) ∈ lw_tbl := lw_at lw_m9 2 rfl
theorem q2066 : (Jvm.Cond.instanceMethod ({ cls := "LetMeModel", name := "lends", desc := "(III)Z" } : Jvm.MethodName)) ∈ lw_all := lw_g (lw_at lw_m9 3 rfl) rfl
theorem q2067 : (Jvm.Cond.code ({ cls := "LetMeModel", name := "lends", desc := "(III)Z" } : Jvm.MethodName) prog_16_method_106_code (4 : Nat) (Option.some Jvm.ClassFile.FieldType.boolean)) ∈ lw_all := lw_g (lw_at lw_m9 4 rfl) rfl
theorem q2069 : (Jvm.Cond.instanceMethod ({ cls := "LetMeModel", name := "balance", desc := "(I)I" } : Jvm.MethodName)) ∈ lw_all := lw_g (lw_at lw_m9 6 rfl) rfl
theorem q2070 : (Jvm.Cond.selects "LetMeModel" ({ cls := "LetMeModel", name := "balance", desc := "(I)I" } : Jvm.MethodName) ({ cls := "LetMeModel", name := "balance", desc := "(I)I" } : Jvm.MethodName)) ∈ lw_all := lw_g (lw_at lw_m9 7 rfl) rfl
theorem q2071 : (Jvm.Cond.code ({ cls := "LetMeModel", name := "balance", desc := "(I)I" } : Jvm.MethodName) prog_16_method_108_code (2 : Nat) (Option.some Jvm.ClassFile.FieldType.int)) ∈ lw_all := lw_g (lw_at lw_m9 8 rfl) rfl
theorem q2073 : (Jvm.Cond.instanceMethod ({ cls := "LetMeModel", name := "quits", desc := "(II)I" } : Jvm.MethodName)) ∈ lw_all := lw_g (lw_at lw_m9 10 rfl) rfl
theorem q2074 : (Jvm.Cond.selects "LetMeModel" ({ cls := "LetMeModel", name := "quits", desc := "(II)I" } : Jvm.MethodName) ({ cls := "LetMeModel", name := "quits", desc := "(II)I" } : Jvm.MethodName)) ∈ lw_all := lw_g (lw_at lw_m9 11 rfl) rfl
theorem q2075 : (Jvm.Cond.code ({ cls := "LetMeModel", name := "quits", desc := "(II)I" } : Jvm.MethodName) prog_16_method_109_code (4 : Nat) (Option.some Jvm.ClassFile.FieldType.int)) ∈ lw_all := lw_g (lw_at lw_m9 12 rfl) rfl
theorem q2077 : (Jvm.Cond.instanceMethod ({ cls := "LetMeModel", name := "settle", desc := "()I" } : Jvm.MethodName)) ∈ lw_all := lw_g (lw_at lw_m9 14 rfl) rfl
theorem q2078 : (Jvm.Cond.selects "LetMeModel" ({ cls := "LetMeModel", name := "settle", desc := "()I" } : Jvm.MethodName) ({ cls := "LetMeModel", name := "settle", desc := "()I" } : Jvm.MethodName)) ∈ lw_all := lw_g (lw_at lw_m9 15 rfl) rfl
theorem q2079 : (Jvm.Cond.code ({ cls := "LetMeModel", name := "settle", desc := "()I" } : Jvm.MethodName) prog_16_method_110_code (5 : Nat) (Option.some Jvm.ClassFile.FieldType.int)) ∈ lw_all := lw_g (lw_at lw_m9 16 rfl) rfl
theorem q2080 : (Jvm.Cond.methodLink "LetMeModel" (360 : Nat) ({ cls := "java/lang/Math", name := "max", desc := "(II)I" } : Jvm.MethodName)) ∈ lw_all := lw_g (lw_at lw_m9 17 rfl) rfl
theorem q2082 : (Jvm.Cond.instanceMethod ({ cls := "LetMeModel", name := "ties", desc := "()I" } : Jvm.MethodName)) ∈ lw_all := lw_g (lw_at lw_m9 19 rfl) rfl
theorem q2083 : (Jvm.Cond.selects "LetMeModel" ({ cls := "LetMeModel", name := "ties", desc := "()I" } : Jvm.MethodName) ({ cls := "LetMeModel", name := "ties", desc := "()I" } : Jvm.MethodName)) ∈ lw_all := lw_g (lw_at lw_m9 20 rfl) rfl
theorem q2084 : (Jvm.Cond.code ({ cls := "LetMeModel", name := "ties", desc := "()I" } : Jvm.MethodName) prog_16_method_112_code (1 : Nat) (Option.some Jvm.ClassFile.FieldType.int)) ∈ lw_all := lw_g (lw_at lw_m9 21 rfl) rfl
theorem q2085 : (Jvm.Cond.methodLink "LetMeModel" (363 : Nat) ({ cls := "LetMeModel", name := "tiesNow", desc := "()I" } : Jvm.MethodName)) ∈ lw_all := lw_g (lw_at lw_m9 22 rfl) rfl
theorem q2086 : (Jvm.Cond.privateMethod ({ cls := "LetMeModel", name := "tiesNow", desc := "()I" } : Jvm.MethodName)) ∈ lw_tbl := lw_at lw_m9 23 rfl
theorem q2087 : (Jvm.Cond.instanceMethod ({ cls := "LetMeModel", name := "tiesNow", desc := "()I" } : Jvm.MethodName)) ∈ lw_all := lw_g (lw_at lw_m9 24 rfl) rfl
theorem q2088 : (Jvm.Cond.code ({ cls := "LetMeModel", name := "tiesNow", desc := "()I" } : Jvm.MethodName) prog_16_method_111_code (4 : Nat) (Option.some Jvm.ClassFile.FieldType.int)) ∈ lw_all := lw_g (lw_at lw_m9 25 rfl) rfl
theorem q2090 : (Jvm.Cond.instanceMethod ({ cls := "LetMeModel", name := "extreme", desc := "(I)I" } : Jvm.MethodName)) ∈ lw_all := lw_g (lw_at lw_m9 27 rfl) rfl
theorem q2091 : (Jvm.Cond.selects "LetMeModel" ({ cls := "LetMeModel", name := "extreme", desc := "(I)I" } : Jvm.MethodName) ({ cls := "LetMeModel", name := "extreme", desc := "(I)I" } : Jvm.MethodName)) ∈ lw_all := lw_g (lw_at lw_m9 28 rfl) rfl
theorem q2092 : (Jvm.Cond.code ({ cls := "LetMeModel", name := "extreme", desc := "(I)I" } : Jvm.MethodName) prog_16_method_116_code (2 : Nat) (Option.some Jvm.ClassFile.FieldType.int)) ∈ lw_all := lw_g (lw_at lw_m9 29 rfl) rfl
theorem q2093 : (Jvm.Cond.methodLink "LetMeModel" (366 : Nat) ({ cls := "LetMeModel", name := "laysBalances", desc := "()V" } : Jvm.MethodName)) ∈ lw_all := lw_g (lw_at lw_m9 30 rfl) rfl
theorem q2094 : (Jvm.Cond.privateMethod ({ cls := "LetMeModel", name := "laysBalances", desc := "()V" } : Jvm.MethodName)) ∈ lw_tbl := lw_at lw_m9 31 rfl
theorem q2095 : (Jvm.Cond.instanceMethod ({ cls := "LetMeModel", name := "laysBalances", desc := "()V" } : Jvm.MethodName)) ∈ lw_all := lw_g (lw_at lw_m9 32 rfl) rfl
theorem q2096 : (Jvm.Cond.code ({ cls := "LetMeModel", name := "laysBalances", desc := "()V" } : Jvm.MethodName) prog_16_method_115_code (2 : Nat) (Option.none : Option Jvm.ClassFile.FieldType)) ∈ lw_all := lw_g (lw_at lw_m9 33 rfl) rfl
theorem q2097 : (Jvm.Cond.methodLink "LetMeModel" (369 : Nat) ({ cls := "LetMeModel", name := "leastLeft", desc := "()I" } : Jvm.MethodName)) ∈ lw_all := lw_g (lw_at lw_m9 34 rfl) rfl
theorem q2098 : (Jvm.Cond.privateMethod ({ cls := "LetMeModel", name := "leastLeft", desc := "()I" } : Jvm.MethodName)) ∈ lw_tbl := lw_at lw_m9 35 rfl
theorem q2099 : (Jvm.Cond.instanceMethod ({ cls := "LetMeModel", name := "leastLeft", desc := "()I" } : Jvm.MethodName)) ∈ lw_all := lw_g (lw_at lw_m9 36 rfl) rfl
theorem q2100 : (Jvm.Cond.code ({ cls := "LetMeModel", name := "leastLeft", desc := "()I" } : Jvm.MethodName) prog_16_method_113_code (3 : Nat) (Option.some Jvm.ClassFile.FieldType.int)) ∈ lw_all := lw_g (lw_at lw_m9 37 rfl) rfl
theorem q2101 : (Jvm.Cond.methodLink "LetMeModel" (372 : Nat) ({ cls := "LetMeModel", name := "mostLeft", desc := "()I" } : Jvm.MethodName)) ∈ lw_all := lw_g (lw_at lw_m9 38 rfl) rfl
theorem q2102 : (Jvm.Cond.privateMethod ({ cls := "LetMeModel", name := "mostLeft", desc := "()I" } : Jvm.MethodName)) ∈ lw_tbl := lw_at lw_m9 39 rfl
theorem q2103 : (Jvm.Cond.instanceMethod ({ cls := "LetMeModel", name := "mostLeft", desc := "()I" } : Jvm.MethodName)) ∈ lw_all := lw_g (lw_at lw_m9 40 rfl) rfl
theorem q2104 : (Jvm.Cond.code ({ cls := "LetMeModel", name := "mostLeft", desc := "()I" } : Jvm.MethodName) prog_16_method_114_code (3 : Nat) (Option.some Jvm.ClassFile.FieldType.int)) ∈ lw_all := lw_g (lw_at lw_m9 41 rfl) rfl
theorem q2106 : (Jvm.Cond.instanceMethod ({ cls := "LetMeModel", name := "simplify", desc := "()I" } : Jvm.MethodName)) ∈ lw_all := lw_g (lw_at lw_m9 43 rfl) rfl
theorem q2107 : (Jvm.Cond.selects "LetMeModel" ({ cls := "LetMeModel", name := "simplify", desc := "()I" } : Jvm.MethodName) ({ cls := "LetMeModel", name := "simplify", desc := "()I" } : Jvm.MethodName)) ∈ lw_all := lw_g (lw_at lw_m9 44 rfl) rfl
theorem q2108 : (Jvm.Cond.code ({ cls := "LetMeModel", name := "simplify", desc := "()I" } : Jvm.MethodName) prog_16_method_117_code (4 : Nat) (Option.some Jvm.ClassFile.FieldType.int)) ∈ lw_all := lw_g (lw_at lw_m9 45 rfl) rfl
theorem q2110 : (Jvm.Cond.instanceMethod ({ cls := "LetMeModel", name := "chain", desc := "(I)I" } : Jvm.MethodName)) ∈ lw_all := lw_g (lw_at lw_m9 47 rfl) rfl
theorem q2111 : (Jvm.Cond.selects "LetMeModel" ({ cls := "LetMeModel", name := "chain", desc := "(I)I" } : Jvm.MethodName) ({ cls := "LetMeModel", name := "chain", desc := "(I)I" } : Jvm.MethodName)) ∈ lw_all := lw_g (lw_at lw_m9 48 rfl) rfl
theorem q2112 : (Jvm.Cond.code ({ cls := "LetMeModel", name := "chain", desc := "(I)I" } : Jvm.MethodName) prog_16_method_118_code (6 : Nat) (Option.some Jvm.ClassFile.FieldType.int)) ∈ lw_all := lw_g (lw_at lw_m9 49 rfl) rfl
theorem q2114 : (Jvm.Cond.instanceMethod ({ cls := "LetMeModel", name := "even", desc := "(I)I" } : Jvm.MethodName)) ∈ lw_all := lw_g (lw_at lw_m9 51 rfl) rfl
theorem q2115 : (Jvm.Cond.selects "LetMeModel" ({ cls := "LetMeModel", name := "even", desc := "(I)I" } : Jvm.MethodName) ({ cls := "LetMeModel", name := "even", desc := "(I)I" } : Jvm.MethodName)) ∈ lw_all := lw_g (lw_at lw_m9 52 rfl) rfl
theorem q2116 : (Jvm.Cond.code ({ cls := "LetMeModel", name := "even", desc := "(I)I" } : Jvm.MethodName) prog_16_method_121_code (2 : Nat) (Option.some Jvm.ClassFile.FieldType.int)) ∈ lw_all := lw_g (lw_at lw_m9 53 rfl) rfl
theorem q2117 : (Jvm.Cond.constantLong "LetMeModel" (378 : Nat) (99 : Int64)) ∈ lw_all := lw_g (lw_at lw_m9 54 rfl) rfl
theorem q2118 : (Jvm.Cond.methodLink "LetMeModel" (380 : Nat) ({ cls := "LetMeModel", name := "evenIn", desc := "(I)I" } : Jvm.MethodName)) ∈ lw_all := lw_g (lw_at lw_m9 55 rfl) rfl
theorem q2119 : (Jvm.Cond.privateMethod ({ cls := "LetMeModel", name := "evenIn", desc := "(I)I" } : Jvm.MethodName)) ∈ lw_tbl := lw_at lw_m9 56 rfl
theorem q2120 : (Jvm.Cond.instanceMethod ({ cls := "LetMeModel", name := "evenIn", desc := "(I)I" } : Jvm.MethodName)) ∈ lw_all := lw_g (lw_at lw_m9 57 rfl) rfl
theorem q2121 : (Jvm.Cond.code ({ cls := "LetMeModel", name := "evenIn", desc := "(I)I" } : Jvm.MethodName) prog_16_method_120_code (6 : Nat) (Option.some Jvm.ClassFile.FieldType.int)) ∈ lw_all := lw_g (lw_at lw_m9 58 rfl) rfl
theorem q2122 : (Jvm.Cond.methodLink "LetMeModel" (375 : Nat) ({ cls := "LetMeModel", name := "evenPays", desc := "(III)I" } : Jvm.MethodName)) ∈ lw_all := lw_g (lw_at lw_m9 59 rfl) rfl
theorem q2123 : (Jvm.Cond.privateMethod ({ cls := "LetMeModel", name := "evenPays", desc := "(III)I" } : Jvm.MethodName)) ∈ lw_tbl := lw_at lw_m9 60 rfl
theorem q2124 : (Jvm.Cond.instanceMethod ({ cls := "LetMeModel", name := "evenPays", desc := "(III)I" } : Jvm.MethodName)) ∈ lw_all := lw_g (lw_at lw_m9 61 rfl) rfl
theorem q2125 : (Jvm.Cond.code ({ cls := "LetMeModel", name := "evenPays", desc := "(III)I" } : Jvm.MethodName) prog_16_method_119_code (6 : Nat) (Option.some Jvm.ClassFile.FieldType.int)) ∈ lw_all := lw_g (lw_at lw_m9 62 rfl) rfl
theorem q2127 : (Jvm.Cond.instanceMethod ({ cls := "LetMeModel", name := "evenBy", desc := "(II)I" } : Jvm.MethodName)) ∈ lw_all := lw_g (lw_at lw_m9 64 rfl) rfl
theorem q2128 : (Jvm.Cond.selects "LetMeModel" ({ cls := "LetMeModel", name := "evenBy", desc := "(II)I" } : Jvm.MethodName) ({ cls := "LetMeModel", name := "evenBy", desc := "(II)I" } : Jvm.MethodName)) ∈ lw_all := lw_g (lw_at lw_m9 65 rfl) rfl
theorem q2129 : (Jvm.Cond.code ({ cls := "LetMeModel", name := "evenBy", desc := "(II)I" } : Jvm.MethodName) prog_16_method_122_code (4 : Nat) (Option.some Jvm.ClassFile.FieldType.int)) ∈ lw_all := lw_g (lw_at lw_m9 66 rfl) rfl
theorem q2131 : (Jvm.Cond.instanceMethod ({ cls := "LetMeModel", name := "comes", desc := "(II)I" } : Jvm.MethodName)) ∈ lw_all := lw_g (lw_at lw_m9 68 rfl) rfl
theorem q2132 : (Jvm.Cond.selects "LetMeModel" ({ cls := "LetMeModel", name := "comes", desc := "(II)I" } : Jvm.MethodName) ({ cls := "LetMeModel", name := "comes", desc := "(II)I" } : Jvm.MethodName)) ∈ lw_all := lw_g (lw_at lw_m9 69 rfl) rfl
theorem q2133 : (Jvm.Cond.code ({ cls := "LetMeModel", name := "comes", desc := "(II)I" } : Jvm.MethodName) prog_16_method_123_code (3 : Nat) (Option.some Jvm.ClassFile.FieldType.int)) ∈ lw_all := lw_g (lw_at lw_m9 70 rfl) rfl
theorem q2135 : (Jvm.Cond.instanceMethod ({ cls := "LetMeModel", name := "buys", desc := "()I" } : Jvm.MethodName)) ∈ lw_all := lw_g (lw_at lw_m9 72 rfl) rfl
theorem q2136 : (Jvm.Cond.selects "LetMeModel" ({ cls := "LetMeModel", name := "buys", desc := "()I" } : Jvm.MethodName) ({ cls := "LetMeModel", name := "buys", desc := "()I" } : Jvm.MethodName)) ∈ lw_all := lw_g (lw_at lw_m9 73 rfl) rfl
theorem q2137 : (Jvm.Cond.code ({ cls := "LetMeModel", name := "buys", desc := "()I" } : Jvm.MethodName) prog_16_method_126_code (1 : Nat) (Option.some Jvm.ClassFile.FieldType.int)) ∈ lw_all := lw_g (lw_at lw_m9 74 rfl) rfl
theorem q2138 : (Jvm.Cond.methodLink "LetMeModel" (386 : Nat) ({ cls := "LetMeModel", name := "buyer", desc := "()I" } : Jvm.MethodName)) ∈ lw_all := lw_g (lw_at lw_m9 75 rfl) rfl
theorem q2139 : (Jvm.Cond.privateMethod ({ cls := "LetMeModel", name := "buyer", desc := "()I" } : Jvm.MethodName)) ∈ lw_tbl := lw_at lw_m9 76 rfl
theorem q2140 : (Jvm.Cond.instanceMethod ({ cls := "LetMeModel", name := "buyer", desc := "()I" } : Jvm.MethodName)) ∈ lw_all := lw_g (lw_at lw_m9 77 rfl) rfl
theorem q2141 : (Jvm.Cond.code ({ cls := "LetMeModel", name := "buyer", desc := "()I" } : Jvm.MethodName) prog_16_method_125_code (3 : Nat) (Option.some Jvm.ClassFile.FieldType.int)) ∈ lw_all := lw_g (lw_at lw_m9 78 rfl) rfl
theorem q2142 : (Jvm.Cond.methodLink "LetMeModel" (383 : Nat) ({ cls := "LetMeModel", name := "drinksOf", desc := "(I)I" } : Jvm.MethodName)) ∈ lw_all := lw_g (lw_at lw_m9 79 rfl) rfl
theorem q2143 : (Jvm.Cond.privateMethod ({ cls := "LetMeModel", name := "drinksOf", desc := "(I)I" } : Jvm.MethodName)) ∈ lw_tbl := lw_at lw_m9 80 rfl
theorem q2144 : (Jvm.Cond.instanceMethod ({ cls := "LetMeModel", name := "drinksOf", desc := "(I)I" } : Jvm.MethodName)) ∈ lw_all := lw_g (lw_at lw_m9 81 rfl) rfl
theorem q2145 : (Jvm.Cond.code ({ cls := "LetMeModel", name := "drinksOf", desc := "(I)I" } : Jvm.MethodName) prog_16_method_124_code (2 : Nat) (Option.some Jvm.ClassFile.FieldType.int)) ∈ lw_all := lw_g (lw_at lw_m9 82 rfl) rfl
theorem q2147 : (Jvm.Cond.instanceMethod ({ cls := "LetMeModel", name := "round", desc := "()I" } : Jvm.MethodName)) ∈ lw_all := lw_g (lw_at lw_m9 84 rfl) rfl
theorem q2148 : (Jvm.Cond.selects "LetMeModel" ({ cls := "LetMeModel", name := "round", desc := "()I" } : Jvm.MethodName) ({ cls := "LetMeModel", name := "round", desc := "()I" } : Jvm.MethodName)) ∈ lw_all := lw_g (lw_at lw_m9 85 rfl) rfl
theorem q2149 : (Jvm.Cond.code ({ cls := "LetMeModel", name := "round", desc := "()I" } : Jvm.MethodName) prog_16_method_128_code (1 : Nat) (Option.some Jvm.ClassFile.FieldType.int)) ∈ lw_all := lw_g (lw_at lw_m9 86 rfl) rfl
theorem q2150 : (Jvm.Cond.methodLink "LetMeModel" (389 : Nat) ({ cls := "LetMeModel", name := "rounds", desc := "()I" } : Jvm.MethodName)) ∈ lw_all := lw_g (lw_at lw_m9 87 rfl) rfl
theorem q2151 : (Jvm.Cond.privateMethod ({ cls := "LetMeModel", name := "rounds", desc := "()I" } : Jvm.MethodName)) ∈ lw_tbl := lw_at lw_m9 88 rfl
theorem q2152 : (Jvm.Cond.instanceMethod ({ cls := "LetMeModel", name := "rounds", desc := "()I" } : Jvm.MethodName)) ∈ lw_all := lw_g (lw_at lw_m9 89 rfl) rfl
theorem q2153 : (Jvm.Cond.code ({ cls := "LetMeModel", name := "rounds", desc := "()I" } : Jvm.MethodName) prog_16_method_127_code (3 : Nat) (Option.some Jvm.ClassFile.FieldType.int)) ∈ lw_all := lw_g (lw_at lw_m9 90 rfl) rfl
theorem q2155 : (Jvm.Cond.instanceMethod ({ cls := "LetMeModel", name := "drinks", desc := "(I)I" } : Jvm.MethodName)) ∈ lw_all := lw_g (lw_at lw_m9 92 rfl) rfl
theorem q2156 : (Jvm.Cond.selects "LetMeModel" ({ cls := "LetMeModel", name := "drinks", desc := "(I)I" } : Jvm.MethodName) ({ cls := "LetMeModel", name := "drinks", desc := "(I)I" } : Jvm.MethodName)) ∈ lw_all := lw_g (lw_at lw_m9 93 rfl) rfl
theorem q2157 : (Jvm.Cond.code ({ cls := "LetMeModel", name := "drinks", desc := "(I)I" } : Jvm.MethodName) prog_16_method_129_code (2 : Nat) (Option.some Jvm.ClassFile.FieldType.int)) ∈ lw_all := lw_g (lw_at lw_m9 94 rfl) rfl
theorem q2159 : (Jvm.Cond.instanceMethod ({ cls := "LetMeModel", name := "evenRounds", desc := "()I" } : Jvm.MethodName)) ∈ lw_all := lw_g (lw_at lw_m9 96 rfl) rfl
theorem q2160 : (Jvm.Cond.selects "LetMeModel" ({ cls := "LetMeModel", name := "evenRounds", desc := "()I" } : Jvm.MethodName) ({ cls := "LetMeModel", name := "evenRounds", desc := "()I" } : Jvm.MethodName)) ∈ lw_all := lw_g (lw_at lw_m9 97 rfl) rfl
theorem q2161 : (Jvm.Cond.code ({ cls := "LetMeModel", name := "evenRounds", desc := "()I" } : Jvm.MethodName) prog_16_method_130_code (6 : Nat) (Option.some Jvm.ClassFile.FieldType.int)) ∈ lw_all := lw_g (lw_at lw_m9 98 rfl) rfl
theorem q2163 : (Jvm.Cond.instanceMethod ({ cls := "LetMeModel", name := "giftAt", desc := "(III)I" } : Jvm.MethodName)) ∈ lw_all := lw_g (lw_at lw_m9 100 rfl) rfl
theorem q2164 : (Jvm.Cond.selects "LetMeModel" ({ cls := "LetMeModel", name := "giftAt", desc := "(III)I" } : Jvm.MethodName) ({ cls := "LetMeModel", name := "giftAt", desc := "(III)I" } : Jvm.MethodName)) ∈ lw_all := lw_g (lw_at lw_m9 101 rfl) rfl
theorem q2165 : (Jvm.Cond.code ({ cls := "LetMeModel", name := "giftAt", desc := "(III)I" } : Jvm.MethodName) prog_16_method_133_code (6 : Nat) (Option.some Jvm.ClassFile.FieldType.int)) ∈ lw_all := lw_g (lw_at lw_m9 102 rfl) rfl
theorem q2166 : (Jvm.Cond.methodLink "LetMeModel" (394 : Nat) ({ cls := "LetMeModel", name := "areGifts", desc := "(II)Z" } : Jvm.MethodName)) ∈ lw_all := lw_g (lw_at lw_m9 103 rfl) rfl
theorem q2167 : (Jvm.Cond.privateMethod ({ cls := "LetMeModel", name := "areGifts", desc := "(II)Z" } : Jvm.MethodName)) ∈ lw_tbl := lw_at lw_m9 104 rfl
theorem q2168 : (Jvm.Cond.instanceMethod ({ cls := "LetMeModel", name := "areGifts", desc := "(II)Z" } : Jvm.MethodName)) ∈ lw_all := lw_g (lw_at lw_m9 105 rfl) rfl
theorem q2169 : (Jvm.Cond.code ({ cls := "LetMeModel", name := "areGifts", desc := "(II)Z" } : Jvm.MethodName) prog_16_method_132_code (3 : Nat) (Option.some Jvm.ClassFile.FieldType.boolean)) ∈ lw_all := lw_g (lw_at lw_m9 106 rfl) rfl
theorem q2170 : (Jvm.Cond.constantLong "LetMeModel" (392 : Nat) (100 : Int64)) ∈ lw_all := lw_g (lw_at lw_m9 107 rfl) rfl
theorem q2171 : (Jvm.Cond.constantLong "LetMeModel" (397 : Nat) (60 : Int64)) ∈ lw_all := lw_g (lw_at lw_m9 108 rfl) rfl
theorem q2172 : (Jvm.Cond.methodLink "LetMeModel" (399 : Nat) ({ cls := "LetMeModel", name := "nextGift", desc := "(II)I" } : Jvm.MethodName)) ∈ lw_all := lw_g (lw_at lw_m9 109 rfl) rfl
theorem q2173 : (Jvm.Cond.static ({ cls := "LetMeModel", name := "nextGift", desc := "(II)I" } : Jvm.MethodName)) ∈ lw_all := lw_g (lw_at lw_m9 110 rfl) rfl
theorem q2174 : (Jvm.Cond.code ({ cls := "LetMeModel", name := "nextGift", desc := "(II)I" } : Jvm.MethodName) prog_16_method_131_code (2 : Nat) (Option.some Jvm.ClassFile.FieldType.int)) ∈ lw_all := lw_g (lw_at lw_m9 111 rfl) rfl
theorem q2176 : (Jvm.Cond.instanceMethod ({ cls := "LetMeModel", name := "ends", desc := "(IIII)I" } : Jvm.MethodName)) ∈ lw_all := lw_g (lw_at lw_m9 113 rfl) rfl
theorem q2177 : (Jvm.Cond.selects "LetMeModel" ({ cls := "LetMeModel", name := "ends", desc := "(IIII)I" } : Jvm.MethodName) ({ cls := "LetMeModel", name := "ends", desc := "(IIII)I" } : Jvm.MethodName)) ∈ lw_all := lw_g (lw_at lw_m9 114 rfl) rfl
theorem q2178 : (Jvm.Cond.code ({ cls := "LetMeModel", name := "ends", desc := "(IIII)I" } : Jvm.MethodName) prog_16_method_135_code (5 : Nat) (Option.some Jvm.ClassFile.FieldType.int)) ∈ lw_all := lw_g (lw_at lw_m9 115 rfl) rfl
theorem q2179 : (Jvm.Cond.methodLink "LetMeModel" (405 : Nat) ({ cls := "LetMeModel", name := "endOf", desc := "(IIII)I" } : Jvm.MethodName)) ∈ lw_all := lw_g (lw_at lw_m9 116 rfl) rfl
theorem q2180 : (Jvm.Cond.privateMethod ({ cls := "LetMeModel", name := "endOf", desc := "(IIII)I" } : Jvm.MethodName)) ∈ lw_tbl := lw_at lw_m9 117 rfl
theorem q2181 : (Jvm.Cond.instanceMethod ({ cls := "LetMeModel", name := "endOf", desc := "(IIII)I" } : Jvm.MethodName)) ∈ lw_all := lw_g (lw_at lw_m9 118 rfl) rfl
theorem q2182 : (Jvm.Cond.code ({ cls := "LetMeModel", name := "endOf", desc := "(IIII)I" } : Jvm.MethodName) prog_16_method_134_code (7 : Nat) (Option.some Jvm.ClassFile.FieldType.int)) ∈ lw_all := lw_g (lw_at lw_m9 119 rfl) rfl
theorem q2184 : (Jvm.Cond.instanceMethod ({ cls := "LetMeModel", name := "wasted", desc := "(IIII)I" } : Jvm.MethodName)) ∈ lw_all := lw_g (lw_at lw_m9 121 rfl) rfl
theorem q2185 : (Jvm.Cond.selects "LetMeModel" ({ cls := "LetMeModel", name := "wasted", desc := "(IIII)I" } : Jvm.MethodName) ({ cls := "LetMeModel", name := "wasted", desc := "(IIII)I" } : Jvm.MethodName)) ∈ lw_all := lw_g (lw_at lw_m9 122 rfl) rfl
theorem q2186 : (Jvm.Cond.code ({ cls := "LetMeModel", name := "wasted", desc := "(IIII)I" } : Jvm.MethodName) prog_16_method_136_code (5 : Nat) (Option.some Jvm.ClassFile.FieldType.int)) ∈ lw_all := lw_g (lw_at lw_m9 123 rfl) rfl
theorem q2188 : (Jvm.Cond.instanceMethod ({ cls := "LetMeModel", name := "gift", desc := "(III)I" } : Jvm.MethodName)) ∈ lw_all := lw_g (lw_at lw_m9 125 rfl) rfl
theorem q2189 : (Jvm.Cond.selects "LetMeModel" ({ cls := "LetMeModel", name := "gift", desc := "(III)I" } : Jvm.MethodName) ({ cls := "LetMeModel", name := "gift", desc := "(III)I" } : Jvm.MethodName)) ∈ lw_all := lw_g (lw_at lw_m9 126 rfl) rfl
theorem q2190 : (Jvm.Cond.code ({ cls := "LetMeModel", name := "gift", desc := "(III)I" } : Jvm.MethodName) prog_16_method_138_code (4 : Nat) (Option.some Jvm.ClassFile.FieldType.int)) ∈ lw_all := lw_g (lw_at lw_m9 127 rfl) rfl
theorem q2191 : (Jvm.Cond.methodLink "LetMeModel" (409 : Nat) ({ cls := "LetMeModel", name := "gifts", desc := "(III)V" } : Jvm.MethodName)) ∈ lw_all := lw_g (lw_at lw_m9 128 rfl) rfl
theorem q2192 : (Jvm.Cond.privateMethod ({ cls := "LetMeModel", name := "gifts", desc := "(III)V" } : Jvm.MethodName)) ∈ lw_tbl := lw_at lw_m9 129 rfl
theorem q2193 : (Jvm.Cond.instanceMethod ({ cls := "LetMeModel", name := "gifts", desc := "(III)V" } : Jvm.MethodName)) ∈ lw_all := lw_g (lw_at lw_m9 130 rfl) rfl
theorem q2194 : (Jvm.Cond.code ({ cls := "LetMeModel", name := "gifts", desc := "(III)V" } : Jvm.MethodName) prog_16_method_137_code (4 : Nat) (Option.none : Option Jvm.ClassFile.FieldType)) ∈ lw_all := lw_g (lw_at lw_m9 131 rfl) rfl
theorem q2196 : (Jvm.Cond.instanceMethod ({ cls := "LetMeModel", name := "receipts", desc := "(IIII)I" } : Jvm.MethodName)) ∈ lw_all := lw_g (lw_at lw_m9 133 rfl) rfl
theorem q2197 : (Jvm.Cond.selects "LetMeModel" ({ cls := "LetMeModel", name := "receipts", desc := "(IIII)I" } : Jvm.MethodName) ({ cls := "LetMeModel", name := "receipts", desc := "(IIII)I" } : Jvm.MethodName)) ∈ lw_all := lw_g (lw_at lw_m9 134 rfl) rfl
theorem q2198 : (Jvm.Cond.code ({ cls := "LetMeModel", name := "receipts", desc := "(IIII)I" } : Jvm.MethodName) prog_16_method_139_code (8 : Nat) (Option.some Jvm.ClassFile.FieldType.int)) ∈ lw_all := lw_g (lw_at lw_m9 135 rfl) rfl
theorem q2199 : (Jvm.Cond.methodLink "LetMeModel" (413 : Nat) ({ cls := "LetMeModel", name := "write", desc := "(IIJ)Z" } : Jvm.MethodName)) ∈ lw_all := lw_g (lw_at lw_m9 136 rfl) rfl
theorem q2201 : (Jvm.Cond.instanceMethod ({ cls := "LetMeModel", name := "remembers", desc := "(I)I" } : Jvm.MethodName)) ∈ lw_all := lw_g (lw_at lw_m9 138 rfl) rfl
theorem q2202 : (Jvm.Cond.selects "LetMeModel" ({ cls := "LetMeModel", name := "remembers", desc := "(I)I" } : Jvm.MethodName) ({ cls := "LetMeModel", name := "remembers", desc := "(I)I" } : Jvm.MethodName)) ∈ lw_all := lw_g (lw_at lw_m9 139 rfl) rfl
theorem q2203 : (Jvm.Cond.code ({ cls := "LetMeModel", name := "remembers", desc := "(I)I" } : Jvm.MethodName) prog_16_method_140_code (8 : Nat) (Option.some Jvm.ClassFile.FieldType.int)) ∈ lw_all := lw_g (lw_at lw_m9 140 rfl) rfl
theorem q2204 : (Jvm.Cond.constantLong "LetMeModel" (417 : Nat) (-9999999 : Int64)) ∈ lw_all := lw_g (lw_at lw_m9 141 rfl) rfl
theorem q2205 : (Jvm.Cond.constantLong "LetMeModel" (419 : Nat) (9999999 : Int64)) ∈ lw_all := lw_g (lw_at lw_m9 142 rfl) rfl
theorem q2206 : (Jvm.Cond.methodLink "LetMeModel" (421 : Nat) ({ cls := "java/lang/Math", name := "abs", desc := "(J)J" } : Jvm.MethodName)) ∈ lw_all := lw_g (lw_at lw_m9 143 rfl) rfl
theorem q2208 : (Jvm.Cond.instanceMethod ({ cls := "LetMeModel", name := "live", desc := "(I)I" } : Jvm.MethodName)) ∈ lw_all := lw_g (lw_at lw_m9 145 rfl) rfl
theorem q2209 : (Jvm.Cond.selects "LetMeModel" ({ cls := "LetMeModel", name := "live", desc := "(I)I" } : Jvm.MethodName) ({ cls := "LetMeModel", name := "live", desc := "(I)I" } : Jvm.MethodName)) ∈ lw_all := lw_g (lw_at lw_m9 146 rfl) rfl
theorem q2210 : (Jvm.Cond.code ({ cls := "LetMeModel", name := "live", desc := "(I)I" } : Jvm.MethodName) prog_16_method_149_code (3 : Nat) (Option.some Jvm.ClassFile.FieldType.int)) ∈ lw_all := lw_g (lw_at lw_m9 147 rfl) rfl
theorem q2211 : (Jvm.Cond.methodLink "LetMeModel" (452 : Nat) ({ cls := "LetMeModel", name := "lives", desc := "(I)V" } : Jvm.MethodName)) ∈ lw_all := lw_g (lw_at lw_m9 148 rfl) rfl
theorem q2212 : (Jvm.Cond.privateMethod ({ cls := "LetMeModel", name := "lives", desc := "(I)V" } : Jvm.MethodName)) ∈ lw_tbl := lw_at lw_m9 149 rfl
theorem q2213 : (Jvm.Cond.instanceMethod ({ cls := "LetMeModel", name := "lives", desc := "(I)V" } : Jvm.MethodName)) ∈ lw_all := lw_g (lw_at lw_m9 150 rfl) rfl
theorem q2214 : (Jvm.Cond.code ({ cls := "LetMeModel", name := "lives", desc := "(I)V" } : Jvm.MethodName) prog_16_method_148_code (4 : Nat) (Option.none : Option Jvm.ClassFile.FieldType)) ∈ lw_all := lw_g (lw_at lw_m9 151 rfl) rfl
theorem q2215 : (Jvm.Cond.methodLink "LetMeModel" (443 : Nat) ({ cls := "LetMeModel", name := "does", desc := "(I)Z" } : Jvm.MethodName)) ∈ lw_all := lw_g (lw_at lw_m9 152 rfl) rfl
theorem q2216 : (Jvm.Cond.privateMethod ({ cls := "LetMeModel", name := "does", desc := "(I)Z" } : Jvm.MethodName)) ∈ lw_tbl := lw_at lw_m9 153 rfl
theorem q2217 : (Jvm.Cond.instanceMethod ({ cls := "LetMeModel", name := "does", desc := "(I)Z" } : Jvm.MethodName)) ∈ lw_all := lw_g (lw_at lw_m9 154 rfl) rfl
theorem q2218 : (Jvm.Cond.code ({ cls := "LetMeModel", name := "does", desc := "(I)Z" } : Jvm.MethodName) prog_16_method_145_code (4 : Nat) (Option.some Jvm.ClassFile.FieldType.boolean)) ∈ lw_all := lw_g (lw_at lw_m9 155 rfl) rfl
theorem q2219 : (Jvm.Cond.methodLink "LetMeModel" (434 : Nat) ({ cls := "LetMeModel", name := "reaches", desc := "()Z" } : Jvm.MethodName)) ∈ lw_all := lw_g (lw_at lw_m9 156 rfl) rfl
theorem q2220 : (Jvm.Cond.privateMethod ({ cls := "LetMeModel", name := "reaches", desc := "()Z" } : Jvm.MethodName)) ∈ lw_tbl := lw_at lw_m9 157 rfl
theorem q2221 : (Jvm.Cond.instanceMethod ({ cls := "LetMeModel", name := "reaches", desc := "()Z" } : Jvm.MethodName)) ∈ lw_all := lw_g (lw_at lw_m9 158 rfl) rfl
theorem q2222 : (Jvm.Cond.code ({ cls := "LetMeModel", name := "reaches", desc := "()Z" } : Jvm.MethodName) prog_16_method_143_code (4 : Nat) (Option.some Jvm.ClassFile.FieldType.boolean)) ∈ lw_all := lw_g (lw_at lw_m9 159 rfl) rfl
theorem q2223 : (Jvm.Cond.methodLink "LetMeModel" (428 : Nat) ({ cls := "LetMeModel", name := "draw", desc := "(I)I" } : Jvm.MethodName)) ∈ lw_all := lw_g (lw_at lw_m9 160 rfl) rfl
theorem q2224 : (Jvm.Cond.privateMethod ({ cls := "LetMeModel", name := "draw", desc := "(I)I" } : Jvm.MethodName)) ∈ lw_tbl := lw_at lw_m9 161 rfl
theorem q2225 : (Jvm.Cond.instanceMethod ({ cls := "LetMeModel", name := "draw", desc := "(I)I" } : Jvm.MethodName)) ∈ lw_all := lw_g (lw_at lw_m9 162 rfl) rfl
theorem q2226 : (Jvm.Cond.code ({ cls := "LetMeModel", name := "draw", desc := "(I)I" } : Jvm.MethodName) prog_16_method_141_code (2 : Nat) (Option.some Jvm.ClassFile.FieldType.int)) ∈ lw_all := lw_g (lw_at lw_m9 163 rfl) rfl
theorem q2227 : (Jvm.Cond.constant "LetMeModel" (427 : Nat) (65536 : Int32)) ∈ lw_all := lw_g (lw_at lw_m9 164 rfl) rfl
theorem q2228 : (Jvm.Cond.methodLink "LetMeModel" (431 : Nat) ({ cls := "LetMeModel", name := "dines", desc := "(I)Z" } : Jvm.MethodName)) ∈ lw_all := lw_g (lw_at lw_m9 165 rfl) rfl
theorem q2229 : (Jvm.Cond.privateMethod ({ cls := "LetMeModel", name := "dines", desc := "(I)Z" } : Jvm.MethodName)) ∈ lw_tbl := lw_at lw_m9 166 rfl
theorem q2230 : (Jvm.Cond.instanceMethod ({ cls := "LetMeModel", name := "dines", desc := "(I)Z" } : Jvm.MethodName)) ∈ lw_all := lw_g (lw_at lw_m9 167 rfl) rfl
theorem q2231 : (Jvm.Cond.code ({ cls := "LetMeModel", name := "dines", desc := "(I)Z" } : Jvm.MethodName) prog_16_method_142_code (2 : Nat) (Option.some Jvm.ClassFile.FieldType.boolean)) ∈ lw_all := lw_g (lw_at lw_m9 168 rfl) rfl
theorem q2232 : (Jvm.Cond.methodLink "LetMeModel" (437 : Nat) ({ cls := "LetMeModel", name := "duels", desc := "(II)Z" } : Jvm.MethodName)) ∈ lw_all := lw_g (lw_at lw_m9 169 rfl) rfl
theorem q2233 : (Jvm.Cond.privateMethod ({ cls := "LetMeModel", name := "duels", desc := "(II)Z" } : Jvm.MethodName)) ∈ lw_tbl := lw_at lw_m9 170 rfl
theorem q2234 : (Jvm.Cond.instanceMethod ({ cls := "LetMeModel", name := "duels", desc := "(II)Z" } : Jvm.MethodName)) ∈ lw_all := lw_g (lw_at lw_m9 171 rfl) rfl
theorem q2235 : (Jvm.Cond.code ({ cls := "LetMeModel", name := "duels", desc := "(II)Z" } : Jvm.MethodName) prog_16_method_144_code (5 : Nat) (Option.some Jvm.ClassFile.FieldType.boolean)) ∈ lw_all := lw_g (lw_at lw_m9 172 rfl) rfl
theorem q2236 : (Jvm.Cond.methodLink "LetMeModel" (446 : Nat) ({ cls := "LetMeModel", name := "holds", desc := "(I)Z" } : Jvm.MethodName)) ∈ lw_all := lw_g (lw_at lw_m9 173 rfl) rfl
theorem q2237 : (Jvm.Cond.privateMethod ({ cls := "LetMeModel", name := "holds", desc := "(I)Z" } : Jvm.MethodName)) ∈ lw_tbl := lw_at lw_m9 174 rfl
theorem q2238 : (Jvm.Cond.instanceMethod ({ cls := "LetMeModel", name := "holds", desc := "(I)Z" } : Jvm.MethodName)) ∈ lw_all := lw_g (lw_at lw_m9 175 rfl) rfl
theorem q2239 : (Jvm.Cond.code ({ cls := "LetMeModel", name := "holds", desc := "(I)Z" } : Jvm.MethodName) prog_16_method_146_code (5 : Nat) (Option.some Jvm.ClassFile.FieldType.boolean)) ∈ lw_all := lw_g (lw_at lw_m9 176 rfl) rfl
theorem q2240 : (Jvm.Cond.methodLink "LetMeModel" (449 : Nat) ({ cls := "LetMeModel", name := "behindEnds", desc := "(I)I" } : Jvm.MethodName)) ∈ lw_all := lw_g (lw_at lw_m9 177 rfl) rfl
theorem q2241 : (Jvm.Cond.privateMethod ({ cls := "LetMeModel", name := "behindEnds", desc := "(I)I" } : Jvm.MethodName)) ∈ lw_tbl := lw_at lw_m9 178 rfl
theorem q2242 : (Jvm.Cond.instanceMethod ({ cls := "LetMeModel", name := "behindEnds", desc := "(I)I" } : Jvm.MethodName)) ∈ lw_all := lw_g (lw_at lw_m9 179 rfl) rfl
theorem q2243 : (Jvm.Cond.code ({ cls := "LetMeModel", name := "behindEnds", desc := "(I)I" } : Jvm.MethodName) prog_16_method_147_code (5 : Nat) (Option.some Jvm.ClassFile.FieldType.int)) ∈ lw_all := lw_g (lw_at lw_m9 180 rfl) rfl
theorem q2245 : (Jvm.Cond.instanceMethod ({ cls := "LetMeModel", name := "lived", desc := "(I)I" } : Jvm.MethodName)) ∈ lw_all := lw_g (lw_at lw_m9 182 rfl) rfl
theorem q2246 : (Jvm.Cond.selects "LetMeModel" ({ cls := "LetMeModel", name := "lived", desc := "(I)I" } : Jvm.MethodName) ({ cls := "LetMeModel", name := "lived", desc := "(I)I" } : Jvm.MethodName)) ∈ lw_all := lw_g (lw_at lw_m9 183 rfl) rfl
theorem q2247 : (Jvm.Cond.code ({ cls := "LetMeModel", name := "lived", desc := "(I)I" } : Jvm.MethodName) prog_16_method_150_code (2 : Nat) (Option.some Jvm.ClassFile.FieldType.int)) ∈ lw_all := lw_g (lw_at lw_m9 184 rfl) rfl
theorem q2249 : (Jvm.Cond.instanceMethod ({ cls := "LetMeModel", name := "mean", desc := "(III)Z" } : Jvm.MethodName)) ∈ lw_all := lw_g (lw_at lw_m9 186 rfl) rfl
theorem q2250 : (Jvm.Cond.selects "LetMeModel" ({ cls := "LetMeModel", name := "mean", desc := "(III)Z" } : Jvm.MethodName) ({ cls := "LetMeModel", name := "mean", desc := "(III)Z" } : Jvm.MethodName)) ∈ lw_all := lw_g (lw_at lw_m9 187 rfl) rfl
theorem q2251 : (Jvm.Cond.code ({ cls := "LetMeModel", name := "mean", desc := "(III)Z" } : Jvm.MethodName) prog_16_method_151_code (8 : Nat) (Option.some Jvm.ClassFile.FieldType.boolean)) ∈ lw_all := lw_g (lw_at lw_m9 188 rfl) rfl
theorem q2252 : (Jvm.Cond.constantLong "LetMeModel" (459 : Nat) (20 : Int64)) ∈ lw_all := lw_g (lw_at lw_m9 189 rfl) rfl
theorem q2254 : (Jvm.Cond.instanceMethod ({ cls := "LetMeModel", name := "mark", desc := "()I" } : Jvm.MethodName)) ∈ lw_all := lw_g (lw_at lw_m9 191 rfl) rfl
theorem q2255 : (Jvm.Cond.selects "LetMeModel" ({ cls := "LetMeModel", name := "mark", desc := "()I" } : Jvm.MethodName) ({ cls := "LetMeModel", name := "mark", desc := "()I" } : Jvm.MethodName)) ∈ lw_all := lw_g (lw_at lw_m9 192 rfl) rfl
theorem q2256 : (Jvm.Cond.code ({ cls := "LetMeModel", name := "mark", desc := "()I" } : Jvm.MethodName) prog_16_method_153_code (1 : Nat) (Option.some Jvm.ClassFile.FieldType.int)) ∈ lw_all := lw_g (lw_at lw_m9 193 rfl) rfl
theorem q2257 : (Jvm.Cond.methodLink "LetMeModel" (464 : Nat) ({ cls := "LetMeModel", name := "copies", desc := "(II)V" } : Jvm.MethodName)) ∈ lw_all := lw_g (lw_at lw_m9 194 rfl) rfl
theorem q2258 : (Jvm.Cond.privateMethod ({ cls := "LetMeModel", name := "copies", desc := "(II)V" } : Jvm.MethodName)) ∈ lw_tbl := lw_at lw_m9 195 rfl
theorem q2259 : (Jvm.Cond.instanceMethod ({ cls := "LetMeModel", name := "copies", desc := "(II)V" } : Jvm.MethodName)) ∈ lw_all := lw_g (lw_at lw_m9 196 rfl) rfl
theorem q2260 : (Jvm.Cond.code ({ cls := "LetMeModel", name := "copies", desc := "(II)V" } : Jvm.MethodName) prog_16_method_152_code (4 : Nat) (Option.none : Option Jvm.ClassFile.FieldType)) ∈ lw_all := lw_g (lw_at lw_m9 197 rfl) rfl
theorem q2262 : (Jvm.Cond.instanceMethod ({ cls := "LetMeModel", name := "back", desc := "()I" } : Jvm.MethodName)) ∈ lw_all := lw_g (lw_at lw_m9 199 rfl) rfl
theorem q2263 : (Jvm.Cond.selects "LetMeModel" ({ cls := "LetMeModel", name := "back", desc := "()I" } : Jvm.MethodName) ({ cls := "LetMeModel", name := "back", desc := "()I" } : Jvm.MethodName)) ∈ lw_all := lw_g (lw_at lw_m9 200 rfl) rfl
theorem q2264 : (Jvm.Cond.code ({ cls := "LetMeModel", name := "back", desc := "()I" } : Jvm.MethodName) prog_16_method_154_code (1 : Nat) (Option.some Jvm.ClassFile.FieldType.int)) ∈ lw_all := lw_g (lw_at lw_m9 201 rfl) rfl
theorem in_X6 : ∀ w ∈ wsX60, w ∈ lw_all := lw_in wsX60 [1573, 1575, 1577, 1579, 1581, 1583, 1585, 1587, 1589, 1591, 1593, 1595, 1597, 1599, 1601, 1603, 1605, 1607, 1609, 1611, 1613, 1615, 1617, 1619, 1621, 1623, 1625, 1627, 1629, 1631, 1633, 1635, 1637, 1639, 1641] (by decide +kernel) (by decide +kernel)
